/-! x: how many instructions a tree has, all trees -/
theorem code_ok {h : hp} {lo hi : Nat} (hS : St h) : ∀ (t : zT) (m : Nat) (xs : List Nat) (n : Nat), okS t m → RT h lo hi t xs → (m = 1 → xs.length = 1) → zc t ≤ 1000 → 8 * zbr t + 10 ≤ n → (m = 0 ∨ m = 1 ∨ (112 ≤ m ∧ m ≤ 119)) → CT h m n xs (zc t) := by
  intro t
  induction t with
  | leaf v =>
    intro m xs n hk hR _ _ _ _
    have hk' : m = 0 := hk
    have hR' : xs = [] := hR
    subst hk'; subst hR'
    exact ⟨fun _ => rfl, fun z => by omega, fun z => by omega, fun z => by omega, fun z => by omega⟩
  | branch k l r ihl ihr =>
    intro m xs n hk hR hx hz hn hm
    have hR0 := hR
    unfold okS at hk
    by_cases m0 : m = 0
    · subst m0
      rw [if_pos rfl] at hk
      obtain ⟨k1, o1, o2⟩ := hk
      subst k1
      unfold RT at hR
      rw [if_pos rfl] at hR
      obtain ⟨x, ys, e, r1, r2⟩ := hR
      have hz' : zc l + zc r ≤ 1000 := hz
      have hn' : 8 * max (zbr l) (zbr r) + 10 ≤ n := hn
      obtain ⟨a, e1, d1⟩ := (ihl 1 [x] n o1 r1 (fun _ => rfl) (by omega) (by omega) (by omega)).2.1 rfl
      cases e1
      have d2 := (ihr 0 ys n o2 r2 (fun z => by omega) (by omega) (by omega) (by omega)).1 rfl
      subst e
      exact ⟨fun _ => ⟨zc l, zc r, rfl, d1, d2⟩, fun z => by omega, fun z => by omega, fun z => by omega, fun z => by omega⟩
    rw [if_neg m0] at hk
    by_cases m1 : m = 112
    · subst m1
      rw [if_pos rfl] at hk
      obtain ⟨k1, o1, o2⟩ := hk
      subst k1
      unfold RT at hR
      rw [if_neg (by decide), if_pos (by decide)] at hR
      obtain ⟨p, q, b, ys, e, r1, r2, r3⟩ := hR
      have hz' : zc l + zc r ≤ 1000 := hz
      have hn' : 8 * max (zbr l) (zbr r) + 10 ≤ n := hn
      have d1 := Pd_of hS r1 ((ihl 0 ys n o1 r2 (fun z => by omega) (by omega) (by omega) (by omega)).1 rfl) (by omega)
      obtain ⟨q', b', e2, d2⟩ := (ihr 113 [q, b] n o2 r3 (fun z => by omega) (by omega) (by omega) (by omega)).2.2.2.1 (Or.inl rfl)
      cases e2
      exact ⟨fun z => by omega, fun z => by omega, fun _ => ⟨p, q, b, zc l, zc r, e, rfl, d1, d2⟩, fun z => by omega, fun z => by omega⟩
    rw [if_neg m1] at hk
    by_cases m2 : m = 117
    · subst m2
      rw [if_pos rfl] at hk
      obtain ⟨k1, o1, o2⟩ := hk
      subst k1
      unfold RT at hR
      rw [if_neg (by decide), if_pos (by decide)] at hR
      obtain ⟨p, q, b, ys, e, r1, r2, r3⟩ := hR
      have hz' : zc l + zc r ≤ 1000 := hz
      have hn' : 8 * max (zbr l) (zbr r) + 10 ≤ n := hn
      have d1 := Pd_of hS r1 ((ihl 0 ys n o1 r2 (fun z => by omega) (by omega) (by omega) (by omega)).1 rfl) (by omega)
      obtain ⟨q', b', e2, d2⟩ := (ihr 118 [q, b] n o2 r3 (fun z => by omega) (by omega) (by omega) (by omega)).2.2.2.1 (Or.inr rfl)
      cases e2
      exact ⟨fun z => by omega, fun z => by omega, fun _ => ⟨p, q, b, zc l, zc r, e, rfl, d1, d2⟩, fun z => by omega, fun z => by omega⟩
    rw [if_neg m2] at hk
    by_cases m3 : m = 113 ∨ m = 118
    · rw [if_pos m3] at hk
      obtain ⟨k1, o1, o2⟩ := hk
      subst k1
      unfold RT at hR
      rw [if_neg (by omega), if_neg (by omega), if_pos m3] at hR
      obtain ⟨q, b, ys, e, r1, r2, r3⟩ := hR
      have ez : zc (.branch k l r) = zc l := by clear hR0 hz hn; rcases m3 with e | e <;> subst e <;> rfl
      have eb : zbr (.branch k l r) = zbr l := by clear hR0 hz hn ez; rcases m3 with e | e <;> subst e <;> rfl
      rw [ez] at hz
      rw [eb] at hn
      rw [ez]
      have d1 := Pd_of hS r1 ((ihl 0 ys n o1 r2 (fun z => by omega) (by omega) (by omega) (by omega)).1 rfl) (by omega)
      exact ⟨fun z => by omega, fun z => by omega, fun z => by omega, fun _ => ⟨q, b, e, d1⟩, fun z => by omega⟩
    rw [if_neg m3] at hk
    by_cases m4 : m = 119
    · subst m4
      rw [if_pos rfl] at hk
      obtain ⟨k1, o1, o2⟩ := hk
      subst k1
      unfold RT at hR
      rw [if_neg (by decide), if_neg (by decide), if_neg (by decide), if_pos rfl] at hR
      obtain ⟨p, q, ys, zs, e, r1, r2, r3, r4⟩ := hR
      have hz' : zc l + zc r ≤ 1000 := hz
      have hn' : 8 * max (zbr l) (zbr r) + 10 ≤ n := hn
      have d1 := Pd_of hS r1 ((ihl 0 ys n o1 r2 (fun z => by omega) (by omega) (by omega) (by omega)).1 rfl) (by omega)
      have d2 := Pd_of hS r3 ((ihr 0 zs n o2 r4 (fun z => by omega) (by omega) (by omega) (by omega)).1 rfl) (by omega)
      exact ⟨fun z => by omega, fun z => by omega, fun z => by omega, fun z => by omega, fun _ => ⟨p, q, zc l, zc r, e, rfl, d1, d2⟩⟩
    rw [if_neg m4] at hk
    by_cases m5 : m = 1
    · subst m5
      obtain ⟨a, ea⟩ : ∃ a, xs = [a] := List.length_eq_one_iff.1 (hx rfl)
      subst ea
      refine CT_1 ?_
      by_cases k1 : k = 108
      · subst k1
        rw [if_pos rfl] at hk
        unfold RT at hR
        rw [if_neg (by decide), if_neg (by decide), if_neg (by decide), if_neg (by decide)] at hR
        obtain ⟨b, e, -, -, hR⟩ := hR
        cases e
        rw [if_neg (by decide), if_neg (by decide), if_neg (by decide), if_neg (by decide), if_neg (by decide), if_pos (by decide)] at hR
        obtain ⟨ht, b, p, q, c, f0, f1, f2, f3, re, rt⟩ := hR
        have hz' : 3 + zc r ≤ 1000 := hz
        have hn' : 8 * (1 + zbr r) + 10 ≤ n := hn
        obtain ⟨p', q', b', c1, c2, e2, e3, d1, d2⟩ := (ihr 112 [p, q, c] (n - 8) hk.2 rt (fun z => by omega) (by omega) (by omega) (by omega)).2.2.1 (Or.inl rfl)
        cases e2
        show Cd h n a (3 + zc r)
        rw [e3]
        exact Cd_mono (by omega) (Cd_28 hS (K := 29) ht (by decide) f1 f2 d1 d2 (by omega))
      rw [if_neg k1] at hk
      by_cases k2 : k = 111
      · subst k2
        rw [if_pos rfl] at hk
        unfold RT at hR
        rw [if_neg (by decide), if_neg (by decide), if_neg (by decide), if_neg (by decide)] at hR
        obtain ⟨b, e, -, -, hR⟩ := hR
        cases e
        rw [if_neg (by decide), if_neg (by decide), if_neg (by decide), if_neg (by decide), if_neg (by decide), if_pos (by decide)] at hR
        obtain ⟨ht, b, p, q, c, f0, f1, f2, f3, re, rt⟩ := hR
        have hz' : 3 + zc r ≤ 1000 := hz
        have hn' : 8 * (1 + zbr r) + 10 ≤ n := hn
        obtain ⟨p', q', b', c1, c2, e2, e3, d1, d2⟩ := (ihr 117 [p, q, c] (n - 8) hk.2 rt (fun z => by omega) (by omega) (by omega) (by omega)).2.2.1 (Or.inr rfl)
        cases e2
        show Cd h n a (3 + zc r)
        rw [e3]
        exact Cd_mono (by omega) (Cd_28 hS (K := 30) ht (by decide) f1 f2 d1 d2 (by omega))
      rw [if_neg k2] at hk
      by_cases k3 : k = 115
      · subst k3
        rw [if_pos rfl] at hk
        unfold RT at hR
        rw [if_neg (by decide), if_neg (by decide), if_neg (by decide), if_neg (by decide)] at hR
        obtain ⟨b, e, -, -, hR⟩ := hR
        cases e
        rw [if_neg (by decide), if_neg (by decide), if_neg (by decide), if_neg (by decide), if_neg (by decide), if_neg (by decide), if_pos rfl] at hR
        obtain ⟨ht, b, p, ys, f0, f1, re, rp, rt⟩ := hR
        have hz' : 2 + zc r ≤ 1000 := hz
        have hn' : 8 * (1 + zbr r) + 10 ≤ n := hn
        have d1 := Pd_of hS rp ((ihr 0 ys (n - 8) hk.2 rt (fun z => by omega) (by omega) (by omega) (by omega)).1 rfl) (by omega)
        show Cd h n a (2 + zc r)
        exact Cd_mono (by omega) (Cd_31 hS ht f1 d1 (by omega))
      rw [if_neg k3] at hk
      by_cases k4 : k = 116
      · subst k4
        rw [if_pos rfl] at hk
        unfold RT at hR
        rw [if_neg (by decide), if_neg (by decide), if_neg (by decide), if_neg (by decide)] at hR
        obtain ⟨b, e, -, -, hR⟩ := hR
        cases e
        rw [if_neg (by decide), if_neg (by decide), if_neg (by decide), if_neg (by decide), if_neg (by decide), if_neg (by decide), if_neg (by decide), if_pos rfl] at hR
        obtain ⟨ht, b, p, q, f0, f1, f2, re, rt⟩ := hR
        have hz' : 3 + zc r ≤ 1000 := hz
        have hn' : 8 * (1 + zbr r) + 10 ≤ n := hn
        obtain ⟨p', q', c1, c2, e2, e3, d1, d2⟩ := (ihr 119 [p, q] (n - 8) hk.2 rt (fun z => by omega) (by omega) (by omega) (by omega)).2.2.2.2 rfl
        cases e2
        show Cd h n a (3 + zc r)
        rw [e3]
        exact Cd_mono (by omega) (Cd_32 hS ht f1 f2 d1 d2 (by omega))
      rw [if_neg k4] at hk
      obtain ⟨K, t1, t2⟩ := code_step hk hR0
      have ez : zc (.branch k l r) = 1 := (ok1_S hk).2.1
      rw [ez]
      exact Cd_one hS t1 t2 (by omega)
    · exact ⟨fun z => by omega, fun z => by omega, fun z => by omega, fun z => by omega, fun z => by omega⟩
/-- Part.code -/
theorem c_code {d : Nat} {Q : qt} {h : hp} {lo hi p : Nat} {ys : List Nat} {t : zT} (hS : St h) (ho : okS t 0) (hp : RPt h lo hi p ys) (hR : RT h lo hi t ys) (hz : zc t ≤ 1000) (hb : zbr t ≤ 5) (k : Q (.inl (some (vI (zc t : Nat)))) h) : Wc (d + 60) 234 [vR (some p)] h Q :=
  (Pd_of hS hp ((code_ok hS t 0 ys 50 ho hR (fun z => by omega) hz (by omega) (by omega)).1 rfl) hz).2 _ _ (by omega) k
