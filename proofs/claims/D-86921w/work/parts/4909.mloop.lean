/-! m: readSteps, readStep, block do what pS says -/
theorem Lz_j {h : hp} {L : List zTk} (k : Lz h L) {j : Nat} (v : Int) (hj : 9 ≤ j) : Lz (sI h 116 j v) L := by
  obtain ⟨u, ⟨b, h4, h5, hq, hm⟩, e⟩ := k
  refine ⟨u, ⟨b, by rw [hI_sI, if_neg (by omega)]; exact h4, by rw [hI_sI, if_neg (by omega)]; exact h5, Mq_sI hq (by omega), ?_⟩, e⟩
  cases u with
  | nil => exact ⟨by rw [hI_sI, if_neg (by omega)]; exact hm.1, by rw [hI_sI, if_neg (by omega)]; exact hm.2⟩
  | cons c r =>
    obtain ⟨m1, m2, m3, e2, m4, m5⟩ := hm
    exact ⟨m1, by rw [hI_sI, if_neg (by omega)]; exact m2, fun q => by rw [hI_sI, if_neg (by omega)]; exact m3 q, e2, by rw [hI_sI, if_neg (by omega)]; exact m4, Mq_sI m5 (by omega)⟩
theorem Ly_j {h : hp} {L : List zTk} (k : Ly h L) {j : Nat} (v : Int) (hj : 9 ≤ j) : Ly (sI h 116 j v) L := by
  obtain ⟨p, u, a1, a2, a3⟩ := k
  exact ⟨p, u, by rw [hI_sI, if_neg (by omega)]; exact a1, Mq_sI a2 (by omega), a3⟩
theorem Nt_j {h : hp} {ts : List (Nat × Nat)} (k : Nt h ts) {j : Nat} (v : Int) (hj : j ≠ 11) : Nt (sI h 116 j v) ts :=
  ⟨by rw [hI_sI, if_neg (by omega)]; exact k.1, fun i hi => by rw [hI_sI, if_neg (by omega), hI_sI, if_neg (by omega)]; exact k.2 i hi⟩
theorem EM_inl {h0 : hp} {ts : List (Nat × Nat)} {b : Nat} {w : Bool} {g : Nat × Nat} {Q : qt} (k : MF h0 mjS g.1 g.2 Q) : EM h0 ts b w (.inl g) Q := k
theorem SM_inl {h0 : hp} {ts : List (Nat × Nat)} {b : Nat} {g : Nat × Nat} {Q : qt} (k : MF h0 mjS g.1 g.2 Q) : SM h0 ts b (.inl g) Q := k
theorem pmS2 {f : Nat} (ih : PMS f) {d b c o : Nat} {L : List zTk} {r : zRs} {Q : qt} {h0 h : hp} {ts : List (Nat × Nat)} (hr : pS (f + 1) 2 b c o L = some r) (hb : b ≤ 5) (hLk : Lok L) (hS0 : St h0) (hF : FM h0 h) (hM : Mt h L ts b c o) (hd : 61 + 4 * (5 - b) ≤ d) (k : BM h0 ts b r Q) : Wc d 135 [vR (some 116)] h Q := by
  obtain ⟨d, rfl⟩ : ∃ e, d = e + 9 + 1 := ⟨d - 10, by omega⟩
  have hS := FI_St hF hS0 rfl
  have hr1 : (if pis 7 123 L then (if b = 5 then qno 2 L else qBnd (pS f 0 (b + 1) c o L.tail) fun t M c1 o1 => if pis 7 125 M then some (.inr (t, M.tail, c1, o1)) else qno 1 M) else qno 1 L) = some r := hr
  refine se_X4_block hS ?_
  refine c_isM (s := 7) (w := 123) hS (by decide) hM.1 fun h1 f1 l1 => ?_
  have S1 := FI_St f1 hS rfl
  have F1 : FM h0 h1 := FI_trans hF (FI_mono f1 (by decide) (by decide) (by decide))
  obtain ⟨z1, z2, z3, z4⟩ := Lz_un l1
  have e1 : hI h1 116 1 = hI h0 116 1 := FI_i F1 rfl
  obtain ⟨a1, a2, a3, a4, ⟨nb, a5, a6⟩, rb, a7, a8⟩ := hM
  have U1 := Mu_FI a4 f1 rfl rfl rfl rfl rfl (Nat.le_refl _) (by omega)
  refine ss_X4_block_8 S1 ?_
  cases p1 : pis 7 123 L with
  | false =>
    rw [p1, if_neg (by decide)] at hr1
    cases hr1
    refine ip rfl ?_
    refine se_X4_fails S1 ?_
    have k' : MF h0 mjS 1 (pq L) Q := k
    refine ⟨Or.inl rfl, k' _ (FI_sI (FI_sI F1 rfl) rfl) ?_ ?_⟩
    · rw [hI_sI, if_neg (by omega), hI_sI, if_pos ⟨rfl, rfl⟩]; rfl
    · rw [hI_sI, if_pos ⟨rfl, rfl⟩, z1, e1]
  | true =>
    rw [p1, if_pos rfl] at hr1
    refine im (by decide) ?_
    rw [U1.2.1]
    by_cases b5 : b = 5
    · rw [if_pos b5] at hr1
      cases hr1
      refine ip (by omega) ?_
      refine se_X4_fails S1 ?_
      have k' : MF h0 mjS 2 (pq L) Q := k
      refine ⟨Or.inl rfl, k' _ (FI_sI (FI_sI F1 rfl) rfl) ?_ ?_⟩
      · rw [hI_sI, if_neg (by omega), hI_sI, if_pos ⟨rfl, rfl⟩]; rfl
      · rw [hI_sI, if_pos ⟨rfl, rfl⟩, z1, e1]
    · rw [if_neg b5] at hr1
      refine im (by omega) ?_
      rw [na_eq (by omega) (by omega)]
      have S2 : St (sI h1 116 20 ((b : Nat) + 1)) := St_sI S1 (by omega)
      have F2 : FM h0 (sI h1 116 20 ((b : Nat) + 1)) := FI_sI F1 rfl
      have N1 : Nt h1 ts := Nt_FI f1 rfl a2
      have hne := (pis_t p1).1
      have hll := (pis_t p1).2.2.2
      obtain ⟨q1, q2⟩ := (psr_pis (by decide)).mp p1
      refine c_takeL S2 (Lz_j l1 _ (by decide)) (by omega) (Nt_j N1 _ (by decide)) (by omega) fun h2 f2 l2 n2 => ?_
      rw [q1, q2] at n2
      have S3 := FI_St f2 S2 rfl
      have F3 : FM h0 h2 := FI_trans F2 (FI_mono f2 (by decide) (by decide) (by decide))
      have hlen : (ts ++ [(7, 123)]).length = ts.length + 1 := by simp
      have M3 : Mt h2 L.tail (ts ++ [(7, 123)]) (b + 1) c o := by
        obtain ⟨u1, u2, u3, u4, n, u5, u6, u7, u8, u9⟩ := U1
        refine ⟨l2, n2, by omega, ⟨?_, ?_, u3, u4, n, ?_, by omega, by omega, fun z => ⟨(u8 z).1, by rw [FI_i f2 rfl, hI_sI, if_neg (by omega)]; exact (u8 z).2⟩, fun z => ⟨(u9 z).1, ?_⟩⟩, ⟨nb, a5, ?_⟩, rb, a7, ?_⟩
        · rw [FI_i f2 rfl, hI_sI, if_neg (by omega)]; exact u1
        · rw [FI_i f2 rfl, hI_sI, if_pos ⟨rfl, rfl⟩]; rfl
        · rw [FI_i f2 rfl, hI_sI, if_neg (by omega)]; exact u5
        · rw [FI_i f2 rfl, hI_sI, if_neg (by omega)]; exact (u9 z).2
        · rw [FI_i f2 rfl, hI_sI, if_neg (by omega), FI_i f1 rfl]; exact a6
        · rw [FI_i f2 rfl, hI_sI, if_neg (by omega), FI_i f1 rfl]; exact a8
      refine ss_X4_block_53 S3 ?_
      refine Wc_of cs_X4_readSteps rfl ?_
      have T1 := Lok_tl hLk
      rcases qBnd_some hr1 with ⟨g, e2, e3⟩ | ⟨t, M, c1, o1, e2, hr2⟩
      · cases e3
        refine (ih 0 (b + 1) c o L.tail _ e2 (by omega) T1 h0 h2 (ts ++ [(7, 123)]) _ hS0 F3 (d + 8)).1 rfl true M3 (by omega) ?_
        exact EM_inl (MS_to (FI_refl h0) (by decide) (fun h' f q => ss_X4_block_58 (FI_St f hS0 rfl) (ip rfl q)) k)
      · have hr3 : (if pis 7 125 M then some (.inr (t, M.tail, c1, o1)) else qno 1 M) = some r := hr2
        refine (ih 0 (b + 1) c o L.tail _ e2 (by omega) T1 h0 h2 (ts ++ [(7, 123)]) _ hS0 F3 (d + 8)).1 rfl true M3 (by omega) ⟨fun pe h4 F4 M4 => ?_, fun pe => ?_⟩
        · have pe' : pis 7 125 M = true := pe
          have M4' : Mt h4 M (ts ++ [(7, 123)] ++ zk t) (b + 1) c1 o1 := M4
          rw [if_pos pe'] at hr3
          cases hr3
          have S4 := FI_St F4 hS0 rfl
          refine ss_X4_block_58 S4 (im (by decide) ?_)
          obtain ⟨b1, b2, b3, b4, ⟨nb2, b5', b6⟩, rb2, b7, b8⟩ := M4'
          rw [b4.2.1, ns_eq (by omega) (by omega)]
          have eb : (((b + 1 : Nat) : Int)) - 1 = ((b : Nat) : Int) := by omega
          rw [eb]
          have S5 : St (sI h4 116 20 ((b : Nat) : Int)) := St_sI S4 (by omega)
          have F5 : FM h0 (sI h4 116 20 ((b : Nat) : Int)) := FI_sI F4 rfl
          have hne2 := (pis_t pe').1
          have hl2 := (pis_t pe').2.2.2
          refine c_wants (s := 7) (w := 125) S5 (by decide) (Ly_j b1 _ (by decide)) (Nt_j b2 _ (by decide)) (fun _ => by omega) (fun p5 h6 f6 l6 n6 => ?_) (fun p5 => absurd pe' (by rw [p5]; decide))
          refine ⟨Or.inr rfl, ?_⟩
          have F6 : FM h0 h6 := FI_trans F5 (FI_mono f6 (by decide) (by decide) (by decide))
          refine k h6 F6 ?_
          have et : ts ++ (7, 123) :: (zk t ++ [(7, 125)]) = ts ++ [(7, 123)] ++ zk t ++ [(7, 125)] := by simp
          show Mt h6 M.tail (ts ++ (7, 123) :: (zk t ++ [(7, 125)])) b c1 o1
          rw [et]
          have hl6 : (ts ++ [(7, 123)] ++ zk t ++ [(7, 125)]).length = (ts ++ [(7, 123)] ++ zk t).length + 1 := by simp; omega
          obtain ⟨u1, u2, u3, u4, n, u5, u6, u7, u8, u9⟩ := b4
          refine ⟨l6, n6, by omega, ⟨?_, ?_, u3, u4, n, ?_, by omega, by omega, fun z => ⟨(u8 z).1, by rw [FI_i f6 rfl, hI_sI, if_neg (by omega)]; exact (u8 z).2⟩, fun z => ⟨(u9 z).1, ?_⟩⟩, ⟨nb2, b5', ?_⟩, rb2, b7, ?_⟩
          · rw [FI_i f6 rfl, hI_sI, if_neg (by omega)]; exact u1
          · rw [FI_i f6 rfl, hI_sI, if_pos ⟨rfl, rfl⟩]
          · rw [FI_i f6 rfl, hI_sI, if_neg (by omega)]; exact u5
          · rw [FI_i f6 rfl, hI_sI, if_neg (by omega)]; exact (u9 z).2
          · rw [FI_i f6 rfl, hI_sI, if_neg (by omega)]; exact b6
          · rw [FI_i f6 rfl, hI_sI, if_neg (by omega)]; exact b8
        · have pe' : pis 7 125 M = false := pe
          rw [if_neg (by rw [pe']; decide)] at hr3
          cases hr3
          exact MS_to (FI_refl h0) (by decide) (fun h' f q => ss_X4_block_58 (FI_St f hS0 rfl) (ip rfl q)) k
theorem pmS1 {f : Nat} (ih : PMS f) {d b c o : Nat} {L : List zTk} {r : zRs} {Q : qt} {h0 h : hp} {ts : List (Nat × Nat)} {v1 v2 : Int} {v3 v4 v5 v6 v7 : av} (hr : pS (f + 1) 1 b c o L = some r) (hb : b ≤ 5) (hLk : Lok L) (hS0 : St h0) (hF : FM h0 h) (hB : pBeg L = true) (hv : v1 = hI h0 116 1 - (pq L : Nat)) (hM : M1s h L ts b c o) (hd : 61 + 4 * (5 - b) ≤ d) (k : SM h0 ts b r Q) : Wp d C_X4_readStep Q 121 [vR (some 116), vI v1, vI v2, v3, v4, v5, v6, v7] [vI (kyv L)] h := by
  have hS := FI_St hF hS0 rfl
  have hr1 : (if phs 5 L && (pw L == 8 || pw L == 11) then qE (pE L.tail) fun e M =>
        qBnd (pS f 2 b c o M) fun p M1 c1 o1 => qis 5 (pw L + 1) M1 fun M2 => qBnd (pS f 2 b c1 o1 M2) fun p2 M3 c3 o3 => qis 5 (pw L + 2) M3 fun M4 => qE (pE M4) fun e2 M5 =>
          qEnd (pq L) false 3 c3 o3 (if pw L = 8 then zB 108 e (zB 112 p (zB 113 p2 e2)) else zB 111 e (zB 117 p (zB 118 p2 e2))) M5
      else if phs 5 L && pw L == 15 then qE (pE L.tail) fun e M => qBnd (pS f 2 b c o M) fun p M1 c1 o1 => qEnd (pq L) false 2 c1 o1 (zB 115 e p) M1
      else if phs 5 L && pw L == 16 then qE (pE L.tail) fun e M => qBnd (pS f 2 b c o M) fun p M1 c1 o1 => qis 5 9 M1 fun M2 => qBnd (pS f 2 b c1 o1 M2) fun p2 M3 c3 o3 => qEnd (pq L) false 3 c3 o3 (zB 116 e (zB 119 p p2)) M3
      else pOne c o L) = some r := hr
  obtain ⟨d, rfl⟩ : ∃ e, d = e + 2 := ⟨d - 2, by omega⟩
  split at hr1
  · rename_i q8
    have q8' : phs 5 L = true ∧ (pw L = 8 ∨ pw L = 11) := by simpa using q8
    unfold kyv
    rw [if_pos q8'.1]
    refine rs_key hS hM q8'.1 fun h1 f1 M1 U1 => ?_
    rcases q8'.2 with w | w
    · exact rs_if ih hS0 (FI_trans hF (FM_FE f1)) w hb M1 U1 hLk hv hd hr1 k
    · exact rs_from ih hS0 (FI_trans hF (FM_FE f1)) w hb M1 U1 hLk hv hd hr1 k
  · rename_i n1
    split at hr1
    · rename_i q
      have q' : phs 5 L = true ∧ pw L = 15 := by simpa using q
      unfold kyv
      rw [if_pos q'.1]
      exact rs_key hS hM q'.1 fun h1 f1 M1 U1 => rs_while ih hS0 (FI_trans hF (FM_FE f1)) q'.2 hb M1 U1 hLk hv hd hr1 k
    · rename_i n2
      split at hr1
      · rename_i q
        have q' : phs 5 L = true ∧ pw L = 16 := by simpa using q
        unfold kyv
        rw [if_pos q'.1]
        exact rs_key hS hM q'.1 fun h1 f1 M1 U1 => rs_when ih hS0 (FI_trans hF (FM_FE f1)) q'.2 hb M1 U1 hLk hv hd hr1 k
      · rename_i n3
        have hB2 : (phs 1 L || phs 3 L) = true ∨ (phs 5 L = true ∧ (pw L ≤ 7 ∨ pw L = 14)) := by
          unfold pBeg at hB
          cases a : (phs 1 L || phs 3 L) with
          | true => exact Or.inl rfl
          | false =>
            right
            rw [a] at hB
            cases a5 : phs 5 L with
            | false => rw [a5] at hB; cases hB
            | true =>
              rw [a5] at hB n1 n2 n3
              simp at hB n1 n2 n3
              exact ⟨rfl, by omega⟩
        exact rs_one hS0 hF hM hLk hv hB2 (by omega) hr1 k
theorem pmS0g {f : Nat} (ih : PMS f) {d b c o : Nat} {L : List zTk} {r : zRs} {Q : qt} {h0 h : hp} {ts : List (Nat × Nat)} {w : Bool} (hr : pS (f + 1) 0 b c o L = some r) (hb : b ≤ 5) (hLk : Lok L) (hS0 : St h0) (hF : FM h0 h) (hM : Ly h L ∧ Nt h ts ∧ ts.length + L.length ≤ 1600 ∧ Mu h ts.length b c o) (hx : endk w L = true → Mt h L ts b c o) (hd : 63 + 4 * (5 - b) ≤ d) (k : EM h0 ts b w r Q) : Wp d C_X4_readSteps Q 0 [vR (some 116), vI (bI w)] [] h := by
  obtain ⟨d, rfl⟩ : ∃ e, d = e + 8 := ⟨d - 8, by omega⟩
  have hS := FI_St hF hS0 rfl
  have hr1 : (if pBeg L then (if o ≠ 2 ∧ (o == 1) ≠ pFgt L then qno 6 L else
        qBnd (pS f 1 b c (if pFgt L then 1 else 0) L) fun s M c1 o1 => qBnd (pS f 0 b c1 o1 M) fun t M2 c2 o2 => some (.inr (zcons s t, M2, c2, o2)))
      else some (.inr (zL 0, L, c, o))) = some r := hr
  refine ss_X4_readSteps_0 hS ?_
  refine c_look hS hM.1 fun h1 f1 l1 => ?_
  have S1 := FI_St f1 hS rfl
  have F1 : FM h0 h1 := FI_trans hF (FI_mono f1 (by decide) (by decide) (by decide))
  obtain ⟨z1, z2, z3, z4⟩ := Lz_un l1
  have e1 : hI h1 116 1 = hI h0 116 1 := FI_i F1 rfl
  have M1 : Ly h1 L ∧ Nt h1 ts ∧ ts.length + L.length ≤ 1600 ∧ Mu h1 ts.length b c o := by
    obtain ⟨a1, a2, a3, a4⟩ := hM
    exact ⟨Lz_Ly l1, Nt_FI f1 rfl a2, a3, Mu_FI a4 f1 rfl rfl rfl rfl rfl (Nat.le_refl _) (by omega)⟩
  have kend : endk w L = true → pBeg L = false → Q (.inl (some (vI 1))) h1 := by
    intro he hB
    rw [hB, if_neg (by decide)] at hr1
    cases hr1
    refine k.1 he h1 F1 ?_
    show Mt h1 L (ts ++ []) b c o
    rw [List.append_nil]
    obtain ⟨-, -, -, -, ⟨nb, a5, a6⟩, rb, a7, a8⟩ := hx he
    exact ⟨M1.1, M1.2.1, M1.2.2.1, M1.2.2.2, ⟨nb, a5, by rw [FI_i f1 rfl]; exact a6⟩, rb, a7, by rw [FI_i f1 rfl]; exact a8⟩
  have kstep : endk w L = false → cI (Wc (d + 8)) 118 [vR (some 116)] h1 (fun x2 h2 => Wp (d + 8) C_X4_readSteps Q 53 [vR (some 116), vI (bI w)] [vI x2] h2) (fun e h' => Q (.inr e) h') := by
    intro he
    refine se_X4_readStep S1 ?_
    refine c_may S1 l1 ?_
    refine ss_X4_readStep_9 S1 ?_
    cases hB : pBeg L with
    | false =>
      rw [hB, if_neg (by decide)] at hr1
      cases hr1
      refine ip rfl ?_
      refine se_X4_fails S1 ?_
      refine ⟨Or.inl rfl, ?_⟩
      have F2 : FM h0 (sI (sI h1 116 12 1) 116 13 (hI h1 116 5)) := FI_sI (FI_sI F1 rfl) rfl
      refine ss_X4_readSteps_53 (FI_St F2 hS0 rfl) (ip rfl ?_)
      refine k.2 he _ F2 ?_ ?_
      · rw [hI_sI, if_neg (by omega), hI_sI, if_pos ⟨rfl, rfl⟩]; rfl
      · rw [hI_sI, if_pos ⟨rfl, rfl⟩, z1, e1]
    | true =>
      rw [hB, if_pos rfl] at hr1
      refine im (by decide) ?_
      obtain ⟨a1, a2, a3, a4⟩ := M1
      obtain ⟨u1, u2, u3, u4, n, u5, u6, u7, u8, u9⟩ := a4
      have k44 : Wp (d + 7) C_X4_readStep (fun o h' => match o with
          | .inl (some (.inl x)) => Wp (d + 8) C_X4_readSteps Q 53 [vR (some 116), vI (bI w)] [vI x] h'
          | .inr a => Q (.inr a) h'
          | _ => False) 44 [vR (some 116), vI (hI h1 116 5), vU, vU, vU, vU, vU, vU] [vI (bI (pFgt L))] h1 := by
        refine ss_X4_readStep_44 S1 ?_
        have kr : ∀ s0 : Int, (o = 2 → s0 = bI (pFgt L)) → (o ≠ 2 → s0 = (o : Nat)) → Wp (d + 7) C_X4_readStep (fun o h' => match o with
          | .inl (some (.inl x)) => Wp (d + 8) C_X4_readSteps Q 53 [vR (some 116), vI (bI w)] [vI x] h'
          | .inr a => Q (.inr a) h'
          | _ => False) 61 [vR (some 116), vI (hI h1 116 5), vI (bI (pFgt L)), vU, vU, vU, vU, vU] [vI s0, vR (some 116)] h1 := by
          intro s0 h2 hn2
          refine ss_X4_readStep_61 S1 ?_
          have hs01 : s0 = 0 ∨ s0 = 1 := by
            by_cases q : o = 2
            · rw [h2 q]; exact bI_01 _
            · rw [hn2 q]; omega
          refine ⟨hs01, ?_⟩
          rw [u5, na_eq (by omega) (by omega)]
          by_cases q6 : o ≠ 2 ∧ (o == 1) ≠ pFgt L
          · rw [if_pos q6] at hr1
            cases hr1
            have hne : ¬ bI (pFgt L) = s0 := by
              rw [hn2 q6.1]
              intro z
              apply q6.2
              have ho : o = 0 ∨ o = 1 := by omega
              cases hp : pFgt L with
              | true => rw [hp] at z; have z' : (1 : Int) = o := z; rw [show o = 1 by omega]; rfl
              | false => rw [hp] at z; have z' : (0 : Int) = o := z; rw [show o = 0 by omega]; rfl
            refine im hne ?_
            have F2 : FM h0 (sI (sI h1 116 17 s0) 116 18 ((n : Nat) + 1)) := FI_sI (FI_sI F1 rfl) rfl
            refine se_X4_fails (FI_St F2 hS0 rfl) ?_
            refine ⟨Or.inl rfl, ?_⟩
            have F3 : FM h0 (sI (sI (sI (sI h1 116 17 s0) 116 18 ((n : Nat) + 1)) 116 12 6) 116 13 (hI h1 116 5)) := FI_sI (FI_sI F2 rfl) rfl
            refine ss_X4_readSteps_53 (FI_St F3 hS0 rfl) (ip rfl ?_)
            have k' : MF h0 mjS 6 (pq L) Q := k
            refine k' _ F3 ?_ ?_
            · rw [hI_sI, if_neg (by omega), hI_sI, if_pos ⟨rfl, rfl⟩]; rfl
            · rw [hI_sI, if_pos ⟨rfl, rfl⟩, z1, e1]
          · rw [if_neg q6] at hr1
            have es0 : s0 = bI (pFgt L) := by
              by_cases q : o = 2
              · exact h2 q
              · rw [hn2 q]
                have q7 : (o == 1) = pFgt L := by
                  cases z : decide ((o == 1) = pFgt L) with
                  | true => exact of_decide_eq_true z
                  | false => exact absurd ⟨q, of_decide_eq_false z⟩ q6
                rw [← q7]
                have ho : o = 0 ∨ o = 1 := by omega
                rcases ho with z | z <;> subst z <;> rfl
            refine ip es0.symm ?_
            obtain ⟨g, eg⟩ : ∃ x, x = sI (sI (sI (sI (sI h1 116 17 s0) 116 18 ((n : Nat) + 1)) 116 14 0) 116 15 0) 116 16 0 := ⟨_, rfl⟩
            rw [← eg]
            have Fg : FM h0 g := by rw [eg]; exact FI_sI (FI_sI (FI_sI (FI_sI (FI_sI F1 rfl) rfl) rfl) rfl) rfl
            have Sg := FI_St Fg hS0 rfl
            have Lg : Lz g L := by rw [eg]; exact Lz_j (Lz_j (Lz_j (Lz_j (Lz_j l1 _ (by decide)) _ (by decide)) _ (by decide)) _ (by decide)) _ (by decide)
            have Ng : Nt g ts := by rw [eg]; exact Nt_j (Nt_j (Nt_j (Nt_j (Nt_j a2 _ (by decide)) _ (by decide)) _ (by decide)) _ (by decide)) _ (by decide)
            have g14 : hI g 116 14 = 0 := by rw [eg]; simp [hI_sI]
            have g15 : hI g 116 15 = 0 := by rw [eg]; simp [hI_sI]
            have g16 : hI g 116 16 = 0 := by rw [eg]; simp [hI_sI]
            have g17 : hI g 116 17 = s0 := by rw [eg]; simp [hI_sI]
            have g18 : hI g 116 18 = ((n + 1 : Nat) : Int) := by rw [eg]; simp [hI_sI]
            have g19 : hI g 116 19 = hI h1 116 19 := by rw [eg]; simp [hI_sI]
            have g20 : hI g 116 20 = hI h1 116 20 := by rw [eg]; simp [hI_sI]
            have ho' : (if pFgt L = true then 1 else 0) ≤ 1 := by split <;> decide
            have Mg : M1s g L ts b c (if pFgt L = true then 1 else 0) := ⟨Lg, ⟨Lz_Ly Lg, Ng, by rw [g16]; rfl, by rw [g14]; rfl, by rw [g15]; rfl, by decide, by decide, a3⟩, by rw [g19]; exact u1, by rw [g20]; exact u2, u3, by omega, n + 1, g18, by omega, by omega, fun z => by omega, fun _ => ⟨by omega, by rw [g17, es0]; cases pFgt L <;> rfl⟩⟩
            have hv5 : hI h1 116 5 = hI h0 116 1 - (pq L : Nat) := by rw [z1, e1]
            have g6 : hI g 116 6 = (psr L : Nat) := (Lz_un Lg).2.1
            have g7 : psr L ≠ 0 → hI g 116 7 = (pw L : Nat) := (Lz_un Lg).2.2.1
            have q121 : Wp (d + 7) C_X4_readStep (fun o h' => match o with
                | .inl (some (.inl x)) => Wp (d + 8) C_X4_readSteps Q 53 [vR (some 116), vI (bI w)] [vI x] h'
                | .inr a => Q (.inr a) h'
                | _ => False) 121 [vR (some 116), vI (hI h1 116 5), vI (bI (pFgt L)), vU, vU, vU, vU, vU] [vI (kyv L)] g := by
              rcases qBnd_some hr1 with ⟨q, e2, e3⟩ | ⟨s, M, c1, o1, e2, hr2⟩
              · cases e3
                refine (ih 1 b c _ L _ e2 hb hLk h0 g ts _ hS0 Fg (d + 7)).2.1 rfl hB _ _ _ _ _ _ _ hv5 Mg (by omega) ?_
                exact SM_inl (MS_to (FI_refl h0) (by decide) (fun h' f z => ss_X4_readSteps_53 (FI_St f hS0 rfl) (ip rfl z)) k)
              · have K1 := pS_ok f _ _ _ _ _ _ _ _ _ e2 (by decide) hb u3 hLk (fun _ => hB)
                refine (ih 1 b c _ L _ e2 hb hLk h0 g ts _ hS0 Fg (d + 7)).2.1 rfl hB _ _ _ _ _ _ _ hv5 Mg (by omega) ?_
                intro h3 F3 M3
                have M3' : Mt h3 M (ts ++ zk s) b c1 o1 := M3
                refine ss_X4_readSteps_53 (FI_St F3 hS0 rfl) (im (by decide) ?_)
                rcases qBnd_some hr2 with ⟨q, e3, e4⟩ | ⟨t, M2, c2, o2, e3, hr3⟩
                · cases e4
                  exact (ih 0 b c1 o1 M _ e3 hb K1.2.1 h0 h3 (ts ++ zk s) Q hS0 F3 (d + 8)).1 rfl w M3' (by omega) k
                · cases hr3
                  refine (ih 0 b c1 o1 M _ e3 hb K1.2.1 h0 h3 (ts ++ zk s) Q hS0 F3 (d + 8)).1 rfl w M3' (by omega) ⟨fun he2 h4 F4 M4 => k.1 he2 h4 F4 ?_, fun he2 => k.2 he2⟩
                  have M4' : Mt h4 M2 (ts ++ zk s ++ zk t) b c2 o2 := M4
                  rw [List.append_assoc] at M4'
                  exact M4'
            unfold kyv at q121
            rw [z2]
            by_cases p5 : phs 5 L = true
            · have y5 := (psr_phs (by decide)).mp p5
              rw [if_pos p5] at q121
              refine ip (by rw [y5]; rfl) ?_
              rw [z3 (by omega)]
              exact q121
            · rw [if_neg p5] at q121
              exact im (fun z => p5 ((psr_phs (by decide)).mpr (by omega))) q121
        rw [u5]
        by_cases q : o = 2
        · have n0 := (u8 q).1
          refine ip (by omega) ?_
          exact kr _ (fun _ => rfl) (fun z => absurd q z)
        · have n0 := u9 q
          refine im (by omega) ?_
          exact kr _ (fun z => absurd z q) (fun _ => n0.2)
      rw [z2]
      by_cases p5 : phs 5 L = true
      · have y5 := (psr_phs (by decide)).mp p5
        refine ip (by rw [y5]; rfl) ?_
        rw [z3 (by omega)]
        have hfg : pFgt L = decide (14 ≤ pw L) := by
          unfold pBeg at hB
          unfold pFgt
          rw [p5, Bool.eq_iff_iff]
          have p1 : phs 1 L = false := by
            cases q : phs 1 L with
            | false => rfl
            | true => have := (psr_phs (by decide)).mp q; omega
          have p3 : phs 3 L = false := by
            cases q : phs 3 L with
            | false => rfl
            | true => have := (psr_phs (by decide)).mp q; omega
          rw [p1, p3, p5] at hB
          simp at hB ⊢
          omega
        by_cases w14 : pw L < 14
        · refine ip (by omega) ?_
          refine ss_X4_readStep_43 S1 ?_
          rw [hfg, decide_eq_false (by omega)] at k44
          exact k44
        · refine im (by omega) ?_
          rw [hfg, decide_eq_true (by omega)] at k44
          exact k44
      · refine im (fun z => p5 ((psr_phs (by decide)).mpr (by omega))) ?_
        refine ss_X4_readStep_43 S1 ?_
        have hfg : pFgt L = false := by unfold pFgt; rw [Bool.eq_false_iff.mpr p5]; rfl
        rw [hfg] at k44
        exact k44
  refine ss_X4_readSteps_4 S1 ?_
  rw [z2]
  cases w with
  | false =>
    refine ip rfl ?_
    have ek : endk false L = L.isEmpty := rfl
    by_cases hL : L = []
    · refine ip (by rw [hL]; rfl) (ip ((Lz_end l1).mpr hL) ?_)
      exact kend (by rw [ek, hL]; rfl) (by rw [hL]; rfl)
    · have he : endk false L = false := by rw [ek]; cases L with
        | nil => exact absurd rfl hL
        | cons t L => rfl
      by_cases p0 : psr L = 0
      · exact ip (by rw [p0]; rfl) (im (fun z => hL ((Lz_end l1).mp z)) (kstep he))
      · exact im (by omega) (kstep he)
  | true =>
    refine im (by decide) ?_
    by_cases p7 : psr L = 7
    · refine ip (by rw [p7]; rfl) ?_
      rw [z3 (by omega)]
      by_cases w1 : pw L = 125
      · have he : pis 7 125 L = true := (psr_pis (by decide)).mpr ⟨p7, w1⟩
        refine ip (by omega) (kend he ?_)
        cases L with
        | nil => rfl
        | cons t L => obtain ⟨q, a, b⟩ := t; simp [psr, pw] at p7 w1; subst p7; subst w1; rfl
      · have he : endk true L = false := Bool.eq_false_iff.mpr (fun z => w1 ((psr_pis (by decide)).mp z).2)
        exact im (by omega) (kstep he)
    · have he : endk true L = false := Bool.eq_false_iff.mpr (fun z => p7 ((psr_pis (by decide)).mp z).1)
      exact im (by omega) (kstep he)
theorem pmS0 {f : Nat} (ih : PMS f) {d b c o : Nat} {L : List zTk} {r : zRs} {Q : qt} {h0 h : hp} {ts : List (Nat × Nat)} {w : Bool} (hr : pS (f + 1) 0 b c o L = some r) (hb : b ≤ 5) (hLk : Lok L) (hS0 : St h0) (hF : FM h0 h) (hM : Mt h L ts b c o) (hd : 63 + 4 * (5 - b) ≤ d) (k : EM h0 ts b w r Q) : Wp d C_X4_readSteps Q 0 [vR (some 116), vI (bI w)] [] h :=
  pmS0g ih hr hb hLk hS0 hF ⟨hM.1, hM.2.1, hM.2.2.1, hM.2.2.2.1⟩ (fun _ => hM) hd k
theorem pmS (f : Nat) : PMS f := by
  induction f with
  | zero => intro m b c o L r h; cases h
  | succ f ih =>
    intro m b c o L r hr hb hLk h0 h ts Q hS0 hF d
    refine ⟨fun e w hM hd k => ?_, fun e hB v1 v2 v3 v4 v5 v6 v7 hv hM hd k => ?_, fun e hM hd k => ?_⟩
    · subst e; exact pmS0 ih hr hb hLk hS0 hF hM hd k
    · subst e; exact pmS1 ih hr hb hLk hS0 hF hB hv hM hd k
    · subst e; exact pmS2 ih hr hb hLk hS0 hF hM hd k
