/-! EXPRESSIONS AND STEPS IN THE HEAP, in cells with P -/
def REp (h : hp) (P : Nat → Prop) : zT → Nat → Prop
  | .leaf _, _ => False
  | .branch k l r, a => P a ∧
    (if k = 2 then hT h a = (8, 0) ∧ hI h a 0 = (zn l : Nat)
    else if k = 1 then hT h a = (9, 0) ∧ hI h a 0 = (zn l : Nat)
    else if k = 35 then hT h a = (11, 0) ∧ hI h a 0 = (zn l : Nat)
    else if k = 3 then hT h a = (10, 0) ∧ hI h a 0 = (zn l : Nat) ∧ ∃ b, hR h a 1 = some b ∧ REp h P r b
    else if k = 8 then hT h a = (12, 0) ∧ ∃ b, hR h a 0 = some b ∧ REp h P l b
    else if k = 40 then hT h a = (15, 0) ∧ ∃ b, hR h a 0 = some b ∧ REp h P l b
    else hT h a = (if k = 60 ∨ k = 61 then 14 else if zpro k = true then 16 else 17, 0) ∧ hI h a 2 = (k : Nat) ∧ ∃ b c, hR h a 0 = some b ∧ hR h a 1 = some c ∧ REp h P l b ∧ REp h P r c)
theorem REp_eq {h h' : hp} {P P' : Nat → Prop} (hs : ∀ c, P c → P' c ∧ sm h h' c) : ∀ {e : zT} {a : Nat}, REp h P e a → REp h' P' e a := by
  intro e
  induction e with
  | leaf n => intro a k; exact k
  | branch k l r ihl ihr =>
    intro a z
    obtain ⟨z1, z3⟩ := z
    obtain ⟨z2, q⟩ := hs a z1
    refine ⟨z2, ?_⟩
    by_cases k2 : k = 2
    · rw [if_pos k2] at z3 ⊢; obtain ⟨y1, y2⟩ := z3; exact ⟨q.1.trans y1, (q.2.1 0).trans y2⟩
    rw [if_neg k2] at z3 ⊢
    by_cases k1 : k = 1
    · rw [if_pos k1] at z3 ⊢; obtain ⟨y1, y2⟩ := z3; exact ⟨q.1.trans y1, (q.2.1 0).trans y2⟩
    rw [if_neg k1] at z3 ⊢
    by_cases k35 : k = 35
    · rw [if_pos k35] at z3 ⊢; obtain ⟨y1, y2⟩ := z3; exact ⟨q.1.trans y1, (q.2.1 0).trans y2⟩
    rw [if_neg k35] at z3 ⊢
    by_cases k3 : k = 3
    · rw [if_pos k3] at z3 ⊢; obtain ⟨y1, y2, b, y3, y4⟩ := z3; exact ⟨q.1.trans y1, (q.2.1 0).trans y2, b, (q.2.2.2 1).trans y3, ihr y4⟩
    rw [if_neg k3] at z3 ⊢
    by_cases k8 : k = 8
    · rw [if_pos k8] at z3 ⊢; obtain ⟨y1, b, y3, y4⟩ := z3; exact ⟨q.1.trans y1, b, (q.2.2.2 0).trans y3, ihl y4⟩
    rw [if_neg k8] at z3 ⊢
    by_cases k40 : k = 40
    · rw [if_pos k40] at z3 ⊢; obtain ⟨y1, b, y3, y4⟩ := z3; exact ⟨q.1.trans y1, b, (q.2.2.2 0).trans y3, ihl y4⟩
    rw [if_neg k40] at z3 ⊢
    obtain ⟨y1, y2, b, c, y3, y4, y5, y6⟩ := z3; exact ⟨q.1.trans y1, (q.2.1 2).trans y2, b, c, (q.2.2.2 0).trans y3, (q.2.2.2 1).trans y4, ihl y5, ihr y6⟩
theorem RE_iff {h : hp} {lo hi : Nat} : ∀ {e : zT} {a : Nat}, RE h lo hi e a ↔ REp h (fun c => lo ≤ c ∧ c < hi) e a := by
  intro e
  induction e with
  | leaf n => intro a; exact Iff.rfl
  | branch k l r ihl ihr =>
    intro a
    unfold RE REp
    simp only [ihl, ihr, and_assoc]
def RPlp (h : hp) (P : Nat → Prop) (t : zT) (a : Nat) : Prop := P a ∧ hT h a = (6, 0) ∧ ((zg t = 1 ∧ hI h a 0 = (zn (zl t) : Nat) ∧ hI h a 1 = 0 ∧ hR h a 2 = none) ∨ (zg t = 3 ∧ hI h a 0 = -1 ∧ hI h a 1 = (zn (zl t) : Nat) ∧ ∃ b, hR h a 2 = some b ∧ REp h P (zr t) b))
def RPtp (h : hp) (P : Nat → Prop) (p : Nat) (ys : List Nat) : Prop := P p ∧ hT h p = (5, 0) ∧ ∃ l arr, hR h p 0 = some l ∧ P l ∧ RL h l ys arr ∧ (arr = 1 ∨ P arr)
theorem RPlp_eq {h h' : hp} {P P' : Nat → Prop} (hs : ∀ c, P c → P' c ∧ sm h h' c) {t : zT} {a : Nat} (z : RPlp h P t a) : RPlp h' P' t a := by
  obtain ⟨z1, z3, z4⟩ := z
  obtain ⟨z2, q⟩ := hs a z1
  refine ⟨z2, q.1.trans z3, ?_⟩
  rcases z4 with ⟨y1, y2, y3, y4⟩ | ⟨y1, y2, y3, b, y4, y5⟩
  · exact Or.inl ⟨y1, (q.2.1 0).trans y2, (q.2.1 1).trans y3, (q.2.2.2 2).trans y4⟩
  · exact Or.inr ⟨y1, (q.2.1 0).trans y2, (q.2.1 1).trans y3, b, (q.2.2.2 2).trans y4, REp_eq hs y5⟩
theorem RPl_iff {h : hp} {lo hi : Nat} {t : zT} {a : Nat} : RPl h lo hi t a ↔ RPlp h (fun c => lo ≤ c ∧ c < hi) t a := by
  unfold RPl RPlp
  simp only [RE_iff, and_assoc]
theorem RPt_iff {h : hp} {lo hi p : Nat} {ys : List Nat} : RPt h lo hi p ys ↔ RPtp h (fun c => lo ≤ c ∧ c < hi) p ys := by
  unfold RPt RPtp
  simp only [and_assoc]
theorem RPtp_eq {h h' : hp} {P P' : Nat → Prop} (hn : hN h ≤ hN h') (hs : ∀ c, P c → P' c ∧ sm h h' c) {p : Nat} {ys : List Nat} (hy : ∀ y ∈ ys, P y) (z : RPtp h P p ys) : RPtp h' P' p ys := by
  obtain ⟨z1, z3, l, arr, z4, z5, z7, z8⟩ := z
  obtain ⟨z2, q⟩ := hs p z1
  refine ⟨z2, q.1.trans z3, l, arr, (q.2.2.2 0).trans z4, (hs l z5).1, RL_eq hn (fun c hc => ?_) (fun x hx => ?_) z7, z8.imp id (fun w => (hs _ w).1)⟩
  · rcases hc with e | ⟨e, e2⟩
    · rw [e]; exact (hs l z5).2
    · rw [e]
      rcases z8 with w | w
      · omega
      · exact (hs arr w).2
  · rw [(hs x (hy x hx)).2.1]; exact (z7.2.2.2.1 x hx).2
def RTp (h : hp) (P : Nat → Prop) : zT → List Nat → Prop
  | .leaf _, xs => xs = []
  | .branch k l r, xs =>
    if k = 150 then ∃ x ys, xs = x :: ys ∧ RTp h P l [x] ∧ RTp h P r ys
    else if k = 112 ∨ k = 117 then ∃ p q b ys, xs = [p, q, b] ∧ RPtp h P p ys ∧ RTp h P l ys ∧ RTp h P r [q, b]
    else if k = 113 ∨ k = 118 then ∃ q b ys, xs = [q, b] ∧ RPtp h P q ys ∧ RTp h P l ys ∧ REp h P r b
    else if k = 119 then ∃ p q ys zs, xs = [p, q] ∧ RPtp h P p ys ∧ RTp h P l ys ∧ RPtp h P q zs ∧ RTp h P r zs
    else ∃ a, xs = [a] ∧ P a ∧
      (if k = 100 ∨ k = 101 then hT h a = (24, 0) ∧ hI h a 0 = (zn l : Nat) ∧ hI h a 2 = (if k = 100 then 1 else 0) ∧ ∃ b, hR h a 1 = some b ∧ REp h P r b
      else if k = 114 then hT h a = (23, 0) ∧ hI h a 0 = (zn l : Nat) ∧ ∃ b, hR h a 1 = some b ∧ REp h P r b
      else if k = 102 ∨ k = 103 then hT h a = (25, 0) ∧ hI h a 0 = (zn l : Nat) ∧ hI h a 1 = (zn r : Nat) ∧ hI h a 2 = (if k = 102 then 1 else 0)
      else if k = 104 ∨ k = 105 then hT h a = (26, 0) ∧ hI h a 0 = (zn l : Nat) ∧ hI h a 1 = (zg r : Int) - 160 ∧ hI h a 3 = (if k = 104 then 1 else 0) ∧ ∃ b, hR h a 2 = some b ∧ REp h P (zl r) b
      else if k = 106 ∨ k = 107 then hT h a = (27, 0) ∧ hI h a 0 = (zn l : Nat) ∧ hI h a 1 = (if k = 106 then 1 else 0)
      else if k = 108 ∨ k = 111 then hT h a = (if k = 108 then 29 else 30, 0) ∧ ∃ b p q c, hR h a 0 = some b ∧ hR h a 1 = some p ∧ hR h a 2 = some q ∧ hR h a 3 = some c ∧ REp h P l b ∧ RTp h P r [p, q, c]
      else if k = 115 then hT h a = (31, 0) ∧ ∃ b p ys, hR h a 0 = some b ∧ hR h a 1 = some p ∧ REp h P l b ∧ RPtp h P p ys ∧ RTp h P r ys
      else if k = 116 then hT h a = (32, 0) ∧ ∃ b p q, hR h a 0 = some b ∧ hR h a 1 = some p ∧ hR h a 2 = some q ∧ REp h P l b ∧ RTp h P r [p, q]
      else if k = 133 then hT h a = (20, 0) ∧ ∃ b c, hR h a 0 = some b ∧ hR h a 1 = some c ∧ RPlp h P l b ∧ RPlp h P r c
      else hT h a = (21, 0) ∧ hI h a 1 = how k ∧ ∃ b c, hR h a 0 = some b ∧ hR h a 2 = some c ∧ RPlp h P l b ∧ REp h P r c)
theorem RT_iff {h : hp} {lo hi : Nat} : ∀ {t : zT} {xs : List Nat}, RT h lo hi t xs ↔ RTp h (fun c => lo ≤ c ∧ c < hi) t xs := by
  intro t
  induction t with
  | leaf n => intro xs; exact Iff.rfl
  | branch k l r ihl ihr =>
    intro xs
    unfold RT RTp
    simp only [ihl, ihr, RE_iff, RPl_iff, RPt_iff, and_assoc]
theorem REp_P {h : hp} {P : Nat → Prop} {e : zT} {b : Nat} (z : REp h P e b) : P b := by
  cases e with
  | leaf n => exact z.elim
  | branch k2 l2 r2 => exact z.1
theorem RTp_P {h : hp} {P : Nat → Prop} : ∀ {t : zT} {xs : List Nat}, RTp h P t xs → ∀ x ∈ xs, P x := by
  intro t
  induction t with
  | leaf n => intro xs z x hx; rw [show xs = [] from z] at hx; cases hx
  | branch k l r ihl ihr =>
    intro xs z x hx
    unfold RTp at z
    by_cases k150 : k = 150
    · rw [if_pos k150] at z
      obtain ⟨y, ys, e, z1, z2⟩ := z
      rw [e] at hx
      rcases List.mem_cons.mp hx with q | q
      · rw [q]; exact ihl z1 y (List.mem_singleton.mpr rfl)
      · exact ihr z2 x q
    rw [if_neg k150] at z
    by_cases k112 : k = 112 ∨ k = 117
    · rw [if_pos k112] at z
      obtain ⟨p, q, b, ys, e, z1, z2, z3⟩ := z
      rw [e] at hx
      rcases List.mem_cons.mp hx with y | y
      · rw [y]; exact z1.1
      · exact ihr z3 x y
    rw [if_neg k112] at z
    by_cases k113 : k = 113 ∨ k = 118
    · rw [if_pos k113] at z
      obtain ⟨q, b, ys, e, z1, z2, z3⟩ := z
      rw [e] at hx
      rcases List.mem_cons.mp hx with y | y
      · rw [y]; exact z1.1
      · rw [List.mem_singleton.mp y]; exact REp_P z3
    rw [if_neg k113] at z
    by_cases k119 : k = 119
    · rw [if_pos k119] at z
      obtain ⟨p, q, ys, zs, e, z1, z2, z3, z4⟩ := z
      rw [e] at hx
      rcases List.mem_cons.mp hx with y | y
      · rw [y]; exact z1.1
      · rw [List.mem_singleton.mp y]; exact z3.1
    rw [if_neg k119] at z
    obtain ⟨a, e, z1, y⟩ := z
    rw [e] at hx
    rw [List.mem_singleton.mp hx]
    exact z1
theorem RTp_eq {h h' : hp} {P P' : Nat → Prop} (hn : hN h ≤ hN h') (hs : ∀ c, P c → P' c ∧ sm h h' c) : ∀ {t : zT} {xs : List Nat}, RTp h P t xs → RTp h' P' t xs := by
  have hp : ∀ {p : Nat} {t : zT} {ys : List Nat}, RTp h P t ys → RPtp h P p ys → RPtp h' P' p ys := fun z y => RPtp_eq hn hs (RTp_P z) y
  intro t
  induction t with
  | leaf n => intro xs z; exact z
  | branch k l r ihl ihr =>
    intro xs z
    unfold RTp at z ⊢
    by_cases k150 : k = 150
    · rw [if_pos k150] at z ⊢; obtain ⟨y, ys, e, z1, z2⟩ := z; exact ⟨y, ys, e, ihl z1, ihr z2⟩
    rw [if_neg k150] at z ⊢
    by_cases k112 : k = 112 ∨ k = 117
    · rw [if_pos k112] at z ⊢; obtain ⟨p, q, b, ys, e, z1, z2, z3⟩ := z; exact ⟨p, q, b, ys, e, hp z2 z1, ihl z2, ihr z3⟩
    rw [if_neg k112] at z ⊢
    by_cases k113 : k = 113 ∨ k = 118
    · rw [if_pos k113] at z ⊢; obtain ⟨q, b, ys, e, z1, z2, z3⟩ := z; exact ⟨q, b, ys, e, hp z2 z1, ihl z2, REp_eq hs z3⟩
    rw [if_neg k113] at z ⊢
    by_cases k119 : k = 119
    · rw [if_pos k119] at z ⊢; obtain ⟨p, q, ys, zs, e, z1, z2, z3, z4⟩ := z; exact ⟨p, q, ys, zs, e, hp z2 z1, ihl z2, hp z4 z3, ihr z4⟩
    rw [if_neg k119] at z ⊢
    obtain ⟨a, e, z1, y⟩ := z
    obtain ⟨z2, q⟩ := hs a z1
    refine ⟨a, e, z2, ?_⟩
    by_cases k100 : k = 100 ∨ k = 101
    · rw [if_pos k100] at y ⊢
      obtain ⟨a1, a2, a3, b, a4, a5⟩ := y; exact ⟨q.1.trans a1, (q.2.1 0).trans a2, (q.2.1 2).trans a3, b, (q.2.2.2 1).trans a4, REp_eq hs a5⟩
    rw [if_neg k100] at y ⊢
    by_cases k114 : k = 114
    · rw [if_pos k114] at y ⊢
      obtain ⟨a1, a2, b, a4, a5⟩ := y; exact ⟨q.1.trans a1, (q.2.1 0).trans a2, b, (q.2.2.2 1).trans a4, REp_eq hs a5⟩
    rw [if_neg k114] at y ⊢
    by_cases k102 : k = 102 ∨ k = 103
    · rw [if_pos k102] at y ⊢
      obtain ⟨a1, a2, a3, a4⟩ := y; exact ⟨q.1.trans a1, (q.2.1 0).trans a2, (q.2.1 1).trans a3, (q.2.1 2).trans a4⟩
    rw [if_neg k102] at y ⊢
    by_cases k104 : k = 104 ∨ k = 105
    · rw [if_pos k104] at y ⊢
      obtain ⟨a1, a2, a3, a6, b, a4, a5⟩ := y; exact ⟨q.1.trans a1, (q.2.1 0).trans a2, (q.2.1 1).trans a3, (q.2.1 3).trans a6, b, (q.2.2.2 2).trans a4, REp_eq hs a5⟩
    rw [if_neg k104] at y ⊢
    by_cases k106 : k = 106 ∨ k = 107
    · rw [if_pos k106] at y ⊢
      obtain ⟨a1, a2, a3⟩ := y; exact ⟨q.1.trans a1, (q.2.1 0).trans a2, (q.2.1 1).trans a3⟩
    rw [if_neg k106] at y ⊢
    by_cases k108 : k = 108 ∨ k = 111
    · rw [if_pos k108] at y ⊢
      obtain ⟨a1, b, p, w, c, b1, b2, b3, b4, b5, b6⟩ := y; exact ⟨q.1.trans a1, b, p, w, c, (q.2.2.2 0).trans b1, (q.2.2.2 1).trans b2, (q.2.2.2 2).trans b3, (q.2.2.2 3).trans b4, REp_eq hs b5, ihr b6⟩
    rw [if_neg k108] at y ⊢
    by_cases k115 : k = 115
    · rw [if_pos k115] at y ⊢
      obtain ⟨a1, b, p, ys, b1, b2, b3, b4, b5⟩ := y; exact ⟨q.1.trans a1, b, p, ys, (q.2.2.2 0).trans b1, (q.2.2.2 1).trans b2, REp_eq hs b3, hp b5 b4, ihr b5⟩
    rw [if_neg k115] at y ⊢
    by_cases k116 : k = 116
    · rw [if_pos k116] at y ⊢
      obtain ⟨a1, b, p, w, b1, b2, b3, b4, b5⟩ := y; exact ⟨q.1.trans a1, b, p, w, (q.2.2.2 0).trans b1, (q.2.2.2 1).trans b2, (q.2.2.2 2).trans b3, REp_eq hs b4, ihr b5⟩
    rw [if_neg k116] at y ⊢
    by_cases k133 : k = 133
    · rw [if_pos k133] at y ⊢
      obtain ⟨a1, b, c, b1, b2, b3, b4⟩ := y; exact ⟨q.1.trans a1, b, c, (q.2.2.2 0).trans b1, (q.2.2.2 1).trans b2, RPlp_eq hs b3, RPlp_eq hs b4⟩
    rw [if_neg k133] at y ⊢
    obtain ⟨a1, a2, b, c, b1, b2, b3, b4⟩ := y; exact ⟨q.1.trans a1, (q.2.1 1).trans a2, b, c, (q.2.2.2 0).trans b1, (q.2.2.2 2).trans b2, RPlp_eq hs b3, REp_eq hs b4⟩
/-! lists of steps -/
def zol : List zT → zT
  | [] => zL 0
  | s :: S => zB 150 s (zol S)
theorem RTp_cons {h : hp} {P : Nat → Prop} {s t : zT} {xs : List Nat} : RTp h P (zB 150 s t) xs ↔ ∃ x ys, xs = x :: ys ∧ RTp h P s [x] ∧ RTp h P t ys := by
  show (RTp h P (.branch 150 s t) xs) ↔ _
  rw [RTp, if_pos rfl]
theorem RTp_app {h : hp} {P : Nat → Prop} {s : zT} {x : Nat} (a5 : RTp h P s [x]) : ∀ {S : List zT} {xs : List Nat}, RTp h P (zol S) xs → RTp h P (zol (S ++ [s])) (xs ++ [x]) := by
  intro S
  induction S with
  | nil => intro xs z; rw [show xs = [] from z]; exact RTp_cons.2 ⟨x, [], rfl, a5, rfl⟩
  | cons u S ih =>
    intro xs z
    obtain ⟨y, ys, e2, z1, z2⟩ := RTp_cons.1 z
    rw [e2]
    exact RTp_cons.2 ⟨y, ys ++ [x], rfl, z1, ih z2⟩
def RTL (h : hp) (lo hi : Nat) : List zT → List Nat → Prop
  | [], ys => ys = []
  | s :: S, ys => ∃ y zs, ys = y :: zs ∧ RT h lo hi s [y] ∧ RTL h lo hi S zs
theorem RTL_of {h : hp} {lo hi : Nat} : ∀ {t : zT} {ys : List Nat}, okS t 0 → RT h lo hi t ys → RTL h lo hi (zls t) ys := by
  intro t
  induction t with
  | leaf n => intro ys _ z; exact z
  | branch k s t _ ih =>
    intro ys o z
    unfold okS at o
    rw [if_pos rfl] at o
    obtain ⟨ek, -, o2⟩ := o
    subst ek
    obtain ⟨y, zs, e, z1, z2⟩ := RT_cons z
    exact ⟨y, zs, e, z1, ih o2 z2⟩
theorem RTL_len {h : hp} {lo hi : Nat} : ∀ {S : List zT} {ys : List Nat}, RTL h lo hi S ys → ys.length = S.length := by
  intro S
  induction S with
  | nil => intro ys z; rw [show ys = [] from z]; rfl
  | cons s S ih => intro ys z; obtain ⟨y, zs, e, -, z2⟩ := z; rw [e, List.length_cons, List.length_cons, ih z2]
theorem RTL_app {h : hp} {lo hi : Nat} : ∀ {A B : List zT} {ys : List Nat}, RTL h lo hi (A ++ B) ys → ∃ y1 y2, ys = y1 ++ y2 ∧ RTL h lo hi A y1 ∧ RTL h lo hi B y2 := by
  intro A
  induction A with
  | nil => intro B ys z; exact ⟨[], ys, rfl, rfl, z⟩
  | cons s A ih =>
    intro B ys z
    obtain ⟨y, zs, e, z1, z2⟩ := z
    obtain ⟨y1, y2, e2, w1, w2⟩ := ih z2
    exact ⟨y :: y1, y2, by rw [e, e2]; rfl, ⟨y, y1, rfl, z1, w1⟩, w2⟩
theorem RTL_eq {h h' : hp} {lo hi : Nat} (hl : 145 ≤ lo) (hn : hN h ≤ hN h') (hs : ∀ c, lo ≤ c → c < hi → sm h h' c) : ∀ {S : List zT} {ys : List Nat}, RTL h lo hi S ys → RTL h' lo hi S ys := by
  intro S
  induction S with
  | nil => intro ys z; exact z
  | cons s S ih => intro ys z; obtain ⟨y, zs, e, z1, z2⟩ := z; exact ⟨y, zs, e, RT_eq hl hn (fun c c1 c2 _ => hs c c1 c2) z1, ih z2⟩
/-- tokens of steps -/
def zks : List zT → List (Nat × Nat)
  | [] => []
  | s :: S => zk s ++ zks S
theorem zks_app (A B : List zT) : zks (A ++ B) = zks A ++ zks B := by
  induction A with
  | nil => rfl
  | cons s A ih => show zk s ++ zks (A ++ B) = (zk s ++ zks A) ++ zks B; rw [ih, List.append_assoc]
theorem zk_zol (S : List zT) : zk (zol S) = zks S := by
  induction S with
  | nil => rfl
  | cons s S ih => show zk s ++ zk (zol S) = zk s ++ zks S; rw [ih]
theorem zk_zls : ∀ {t : zT}, okS t 0 → zk t = zks (zls t) := by
  intro t
  induction t with
  | leaf n => intro _; rfl
  | branch k s t _ ih =>
    intro o
    unfold okS at o
    rw [if_pos rfl] at o
    obtain ⟨ek, -, o2⟩ := o
    subst ek
    show zk s ++ zk t = zk s ++ zks (zls t)
    rw [ih o2]
/-- what holds of steps -/
def Al (P : zT → Prop) : List zT → Prop
  | [] => True
  | s :: S => P s ∧ Al P S
theorem Al_app {P : zT → Prop} {A B : List zT} : Al P (A ++ B) ↔ Al P A ∧ Al P B := by
  induction A with
  | nil => exact ⟨fun z => ⟨trivial, z⟩, fun z => z.2⟩
  | cons s A ih => show P s ∧ Al P (A ++ B) ↔ (P s ∧ Al P A) ∧ Al P B; rw [ih, and_assoc]
theorem zls_len : ∀ {t : zT}, okS t 0 → Al (fun s => 1 ≤ zc s) (zls t) → (zls t).length ≤ zc t := by
  intro t
  induction t with
  | leaf n => intro _ _; exact Nat.le_refl _
  | branch k s t _ ih =>
    intro o a
    unfold okS at o
    rw [if_pos rfl] at o
    obtain ⟨ek, -, o2⟩ := o
    subst ek
    have := ih o2 a.2
    have := a.1
    show (zls t).length + 1 ≤ zc s + zc t
    omega
