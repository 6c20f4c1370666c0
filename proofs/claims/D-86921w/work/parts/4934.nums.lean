/-! numbers of the kinds -/
theorem l2i2 (v : Int) : l_l2i (l_l2i v) = l_l2i v := by unfold l_l2i s32; exact Int.bmod_bmod
theorem i2s_eq (x : Int) : n_i2s x = Int.bmod x 65536 := by
  unfold n_i2s
  rw [Int16.toInt_toInt32, Int32.toInt_toInt16, Int32.toInt_ofInt]
  exact Int.bmod_bmod_of_dvd (by decide)
theorem i2b_eq (x : Int) : n_i2b x = Int.bmod x 256 := by
  unfold n_i2b
  rw [Int8.toInt_toInt32, Int32.toInt_toInt8, Int32.toInt_ofInt]
  exact Int.bmod_bmod_of_dvd (by decide)
theorem i2c_eq (x : Int) : n_i2c x = x % 65536 := by
  unfold n_i2c
  have h1 : ((Int32.ofInt x).toUInt32 % 65536).toNat = (x % 65536).toNat := by
    rw [UInt32.toNat_mod]
    have : (Int32.ofInt x).toUInt32.toNat = (x % 4294967296).toNat := by
      show (Int32.ofInt x).toBitVec.toNat = _
      rw [Int32.toBitVec_ofInt, BitVec.toNat_ofInt]; rfl
    rw [this]
    show (x % 4294967296).toNat % 65536 = _
    omega
  have h2 : ((Int32.ofInt x).toUInt32 % 65536).toInt32.toInt = Int.bmod (((Int32.ofInt x).toUInt32 % 65536).toNat : Int) 4294967296 := by
    show (((Int32.ofInt x).toUInt32 % 65536).toBitVec).toInt = _
    rw [BitVec.toInt_eq_toNat_bmod]; rfl
  rw [h2, h1]
  have e : ((x % 65536).toNat : Int) = x % 65536 := by omega
  rw [e]
  exact s32_eq (by omega) (by omega)
theorem land_eq {v : Int} {n : Nat} (hn : n ≤ 32) : l_and v ((2 ^ n - 1 : Nat) : Int) = v % (2 ^ n : Nat) := by
  unfold l_and
  have hp : (2 : Nat) ^ n ≤ 2 ^ 32 := Nat.pow_le_pow_right (by decide) hn
  have hp0 : 0 < (2 : Nat) ^ n := Nat.pow_pos (by decide)
  have hd : (2 ^ n : Nat) ∣ 2 ^ 64 := Nat.pow_dvd_pow 2 (by omega)
  have a1 : (Int64.ofInt v &&& Int64.ofInt ((2 ^ n - 1 : Nat) : Int)).toBitVec.toNat = (v % 18446744073709551616).toNat % 2 ^ n := by
    rw [Int64.toBitVec_and, BitVec.toNat_and, Int64.toBitVec_ofInt, Int64.toBitVec_ofInt, BitVec.toNat_ofInt, BitVec.toNat_ofInt]
    have : (((2 ^ n - 1 : Nat) : Int) % ((2 ^ 64 : Nat) : Int)).toNat = 2 ^ n - 1 := by
      rw [show ((2 ^ 64 : Nat) : Int) = 18446744073709551616 from rfl]; omega
    rw [this, Nat.and_two_pow_sub_one_eq_mod]; rfl
  rw [← Int64.toInt_toBitVec, BitVec.toInt_eq_toNat_bmod, a1]
  have lt : (v % 18446744073709551616).toNat % 2 ^ n < 2 ^ n := Nat.mod_lt _ hp0
  have e1 : (((v % 18446744073709551616).toNat % 2 ^ n : Nat) : Int) = v % (2 ^ n : Nat) := by
    rw [Int.natCast_emod, Int.toNat_of_nonneg (Int.emod_nonneg _ (by decide))]
    exact Int.emod_emod_of_dvd v (by have := Int.natCast_dvd_natCast.mpr hd; exact this)
  rw [← e1]
  exact s64_eq (by omega) (by omega)
theorem land_16 (v : Int) : l_and v 65535 = v % 65536 := land_eq (n := 16) (by decide)
/-- a number becomes one of a kind -/
def cutz (kd v : Int) : Int := if kd = 0 then l_l2i v else if kd = 1 then v else if kd = 2 then n_i2s (l_l2i v) else if kd = 3 then n_i2b (l_l2i v) else l_and v 65535
theorem i2s_l (v : Int) : n_i2s (l_l2i v) = Int.bmod v 65536 := by
  rw [i2s_eq]; unfold l_l2i s32; exact Int.bmod_bmod_of_dvd (by decide)
theorem i2b_l (v : Int) : n_i2b (l_l2i v) = Int.bmod v 256 := by
  rw [i2b_eq]; unfold l_l2i s32; exact Int.bmod_bmod_of_dvd (by decide)
theorem i2c_l (v : Int) : n_i2c (l_l2i v) = l_and v 65535 := by
  rw [i2c_eq, land_16]; unfold l_l2i s32
  exact Int.emod_eq_emod_iff_emod_sub_eq_zero.mpr (by
    have : (v.bmod 4294967296) % 4294967296 = v % 4294967296 := Int.bmod_emod
    omega)
theorem cutz2 (kd v : Int) : cutz kd (cutz kd v) = cutz kd v := by
  unfold cutz
  by_cases k0 : kd = 0
  · simp only [if_pos k0]; exact l2i2 v
  by_cases k1 : kd = 1
  · simp only [if_neg k0, if_pos k1]
  by_cases k2 : kd = 2
  · simp only [if_neg k0, if_neg k1, if_pos k2]; rw [i2s_l, i2s_l]; exact Int.bmod_bmod
  by_cases k3 : kd = 3
  · simp only [if_neg k0, if_neg k1, if_neg k2, if_pos k3]; rw [i2b_l, i2b_l]; exact Int.bmod_bmod
  · simp only [if_neg k0, if_neg k1, if_neg k2, if_neg k3]; rw [land_16, land_16]; omega
def bz (kd : Int) : Int := if kd = 0 then 32 else if kd = 1 then 64 else if kd = 3 then 8 else 16
def az (kd v : Int) : Int := if bz kd = 64 then v else l_and v (l_sub (l_shl 1 (bz kd)) 1)
def tz (kd w : Int) : Int := if l_l2i (l_rem w (bz kd)) < 0 then n_add (l_l2i (l_rem w (bz kd))) (bz kd) else l_l2i (l_rem w (bz kd))
/-- v turned by w -/
def tnz (kd v w : Int) : Int := if tz kd w = 0 then v else cutz kd (l_or (l_shl (az kd v) (tz kd w)) (l_ushr (az kd v) (n_sub (bz kd) (tz kd w))))
def chz (op : Nat) (kd v w : Int) : Int := if op = 0 then l_add v w else if op = 1 then l_sub v w else if op = 2 then l_xor v w else if op = 4 then tnz kd v w else tnz kd v (l_sub 0 (l_rem w (bz kd)))
theorem cut_az {kd : Int} (v : Int) : cutz kd (az kd v) = cutz kd v := by
  have m32 : l_sub (l_shl 1 32) 1 = ((2 ^ 32 - 1 : Nat) : Int) := by decide
  have m16 : l_sub (l_shl 1 16) 1 = ((2 ^ 16 - 1 : Nat) : Int) := by decide
  have m8 : l_sub (l_shl 1 8) 1 = ((2 ^ 8 - 1 : Nat) : Int) := by decide
  unfold cutz az bz
  by_cases k0 : kd = 0
  · simp only [if_pos k0]
    rw [if_neg (by decide), m32, land_eq (by decide)]
    unfold l_l2i s32
    exact Int.emod_bmod v _
  by_cases k1 : kd = 1
  · simp only [if_neg k0, if_pos k1]; rfl
  by_cases k2 : kd = 2
  · have k3 : ¬ kd = 3 := by omega
    simp only [if_neg k0, if_neg k1, if_pos k2, if_neg k3]
    rw [if_neg (by decide), m16, land_eq (by decide), i2s_l, i2s_l]
    exact Int.emod_bmod v _
  by_cases k3 : kd = 3
  · simp only [if_neg k0, if_neg k1, if_neg k2, if_pos k3]
    rw [if_neg (by decide), m8, land_eq (by decide), i2b_l, i2b_l]
    exact Int.emod_bmod v _
  · simp only [if_neg k0, if_neg k1, if_neg k2, if_neg k3]
    rw [if_neg (by decide), m16, land_eq (by decide), land_16, land_16]
    omega
theorem tdiv_b {s b : Int} (hb : 1 < b) (h1 : -9223372036854775808 ≤ s) (h2 : s < 9223372036854775808) : -9223372036854775808 ≤ s.tdiv b ∧ s.tdiv b < 9223372036854775808 ∧ -b < s - s.tdiv b * b ∧ s - s.tdiv b * b < b ∧ -9223372036854775808 ≤ s.tdiv b * b ∧ s.tdiv b * b < 9223372036854775808 := by
  have key : ∀ u : Int, 0 ≤ u → 0 ≤ u.tdiv b ∧ u.tdiv b ≤ u ∧ 0 ≤ u - u.tdiv b * b ∧ u - u.tdiv b * b < b ∧ 0 ≤ u.tdiv b * b := by
    intro u hu
    rw [Int.tdiv_eq_ediv_of_nonneg hu]
    have e1 := Int.emod_add_mul_ediv u b
    have e2 := Int.emod_nonneg u (show b ≠ 0 by omega)
    have e3 := Int.emod_lt_of_pos u (show 0 < b by omega)
    have e4 : 0 ≤ u / b := Int.ediv_nonneg hu (by omega)
    have e5 : u / b ≤ u := Int.ediv_le_self b hu
    have e6 : u / b * b = b * (u / b) := Int.mul_comm _ _
    have e7 : 0 ≤ u / b * b := Int.mul_nonneg e4 (by omega)
    omega
  by_cases s0 : 0 ≤ s
  · have := key s s0
    omega
  · have k := key (-s) (by omega)
    rw [Int.neg_tdiv] at k
    have e8 : -(s.tdiv b) * b = -(s.tdiv b * b) := Int.neg_mul _ _
    omega
theorem lrem_b {w b : Int} (hb : 1 < b) (hb2 : b < 9223372036854775808) : -b < l_rem w b ∧ l_rem w b < b ∧ (0 ≤ w → w < 9223372036854775808 → l_rem w b = w % b) := by
  unfold l_rem
  obtain ⟨s, hs⟩ : ∃ s, s = (Int64.ofInt w).toInt := ⟨_, rfl⟩
  have s1 : -9223372036854775808 ≤ s := by rw [hs]; exact Int64.le_toInt _
  have s2 : s < 9223372036854775808 := by rw [hs]; exact Int64.toInt_lt _
  have eb : (Int64.ofInt b).toInt = b := by rw [Int64.toInt_ofInt]; exact s64_eq (by omega) (by omega)
  obtain ⟨d1, d2, d3, d4, d5, d6⟩ := tdiv_b hb s1 s2
  have ed : (Int64.ofInt w / Int64.ofInt b).toInt = s.tdiv b := by
    rw [Int64.toInt_div, ← hs, eb]; exact s64_eq d1 d2
  have em : (Int64.ofInt w / Int64.ofInt b * Int64.ofInt b).toInt = s.tdiv b * b := by
    rw [Int64.toInt_mul, ed, eb]; exact s64_eq d5 d6
  have es : (Int64.ofInt w - Int64.ofInt w / Int64.ofInt b * Int64.ofInt b).toInt = s - s.tdiv b * b := by
    rw [Int64.toInt_sub, em, ← hs]; exact s64_eq (by omega) (by omega)
  rw [es]
  refine ⟨d3, d4, fun w0 w1 => ?_⟩
  have ew : s = w := by rw [hs, Int64.toInt_ofInt]; exact s64_eq (by omega) (by omega)
  rw [ew, Int.tdiv_eq_ediv_of_nonneg w0]
  have e1 := Int.emod_add_mul_ediv w b
  have e6 : w / b * b = b * (w / b) := Int.mul_comm _ _
  omega
theorem bz_ok (kd : Int) : bz kd = 32 ∨ bz kd = 64 ∨ bz kd = 8 ∨ bz kd = 16 := by unfold bz; (repeat' split) <;> omega
/-- x's way of reckoning by how much -/
theorem tz_x (kd w : Int) : l_l2i (l_rem (l_add (l_rem w (bz kd)) (bz kd)) (bz kd)) = tz kd w ∧ 0 ≤ tz kd w ∧ tz kd w < bz kd := by
  have hb : 1 < bz kd ∧ bz kd ≤ 64 := by have := bz_ok kd; omega
  obtain ⟨r1, r2, -⟩ := lrem_b (w := w) hb.1 (by omega)
  obtain ⟨r, hr⟩ : ∃ r, r = l_rem w (bz kd) := ⟨_, rfl⟩
  obtain ⟨b, hbz⟩ : ∃ b, b = bz kd := ⟨_, rfl⟩
  unfold tz
  rw [← hr] at r1 r2 ⊢
  rw [← hbz] at r1 r2 hb ⊢
  have e3 := (lrem_b (w := r + b) hb.1 (by omega)).2.2 (by omega) (by omega)
  rw [la_eq (by omega) (by omega), e3, l2i_eq (x := r) (by omega) (by omega)]
  by_cases r0 : r < 0
  · rw [if_pos r0, na_eq (by omega) (by omega)]
    have : (r + b) % b = r + b := Int.emod_eq_of_lt (by omega) (by omega)
    rw [this, l2i_eq (by omega) (by omega)]
    omega
  · rw [if_neg r0]
    have : (r + b) % b = r := by rw [Int.add_emod_right]; exact Int.emod_eq_of_lt (by omega) (by omega)
    rw [this, l2i_eq (by omega) (by omega)]
    omega
theorem shl0 (a : Int) (h1 : 0 ≤ a) (h2 : a < 4294967296) : l_shl a 0 = a := by
  unfold l_shl
  have : (Int32.ofInt 0).toInt64 &&& 63 = 0 := by decide
  rw [this, show Int64.ofInt a <<< (0 : Int64) = Int64.ofInt a from Int64.toBitVec_inj.1 (by simp)]
  rw [Int64.toInt_ofInt]; exact s64_eq (by omega) (by omega)
theorem ushr0 {a : Int} {b : Nat} (hb : b ≤ 32) (h1 : 0 ≤ a) (h2 : a < (2 ^ b : Nat)) : l_ushr a (b : Nat) = 0 := by
  unfold l_ushr
  have p32 : (2 : Nat) ^ b ≤ 2 ^ 32 := Nat.pow_le_pow_right (by decide) hb
  have e1 : ∀ b : Nat, b ≤ 32 → ((Int32.ofInt (b : Int)).toInt64.toUInt64 &&& Int64.toUInt64 63) = UInt64.ofNat b := by decide
  have e2 : (Int64.ofInt a).toUInt64.toNat = a.toNat := by
    show (Int64.ofInt a).toBitVec.toNat = _
    rw [Int64.toBitVec_ofInt, BitVec.toNat_ofInt]
    rw [show ((2 ^ 64 : Nat) : Int) = 18446744073709551616 from rfl]; omega
  rw [e1 b hb]
  have e3 : (Int64.ofInt a).toUInt64 >>> UInt64.ofNat b = 0 := by
    apply UInt64.toNat_inj.1
    rw [UInt64.toNat_shiftRight, e2]
    have : (UInt64.ofNat b).toNat % 64 = b := by
      rw [UInt64.toNat_ofNat']; omega
    rw [this, Nat.shiftRight_eq_div_pow]
    exact Nat.div_eq_of_lt (by omega)
  rw [e3]; decide
theorem lor0 (a : Int) (h1 : 0 ≤ a) (h2 : a < 4294967296) : l_or a 0 = a := by
  unfold l_or
  rw [show Int64.ofInt a ||| Int64.ofInt 0 = Int64.ofInt a from Int64.toBitVec_inj.1 (by simp)]
  rw [Int64.toInt_ofInt]; exact s64_eq (by omega) (by omega)
/-- what x makes of a turned number -/
def tnx (b v w : Int) : Int := if b = 64 then (if l_l2i (l_rem (l_add (l_rem w b) b) b) = 0 then v else l_or (l_shl v (l_l2i (l_rem (l_add (l_rem w b) b) b))) (l_ushr v (n_sub 64 (l_l2i (l_rem (l_add (l_rem w b) b) b))))) else l_or (l_shl (l_and v (l_sub (l_shl 1 b) 1)) (l_l2i (l_rem (l_add (l_rem w b) b) b))) (l_ushr (l_and v (l_sub (l_shl 1 b) 1)) (n_sub b (l_l2i (l_rem (l_add (l_rem w b) b) b))))
theorem tnx_z (kd v w : Int) : cutz kd (tnx (bz kd) v w) = cutz kd (tnz kd v w) := by
  obtain ⟨t1, t2, t3⟩ := tz_x kd w
  unfold tnx tnz
  rw [t1]
  by_cases b64 : bz kd = 64
  · rw [if_pos b64]
    have ea : az kd v = v := by unfold az; rw [if_pos b64]
    by_cases t0 : tz kd w = 0
    · rw [if_pos t0, if_pos t0]
    · rw [if_neg t0, if_neg t0, ea, b64, cutz2]
  · rw [if_neg b64]
    have ea : az kd v = l_and v (l_sub (l_shl 1 (bz kd)) 1) := by unfold az; rw [if_neg b64]
    rw [← ea]
    by_cases t0 : tz kd w = 0
    · rw [if_pos t0, t0, ← cut_az v]
      obtain ⟨n, n1, n2, n3⟩ : ∃ n : Nat, n ≤ 32 ∧ bz kd = (n : Nat) ∧ l_sub (l_shl 1 (bz kd)) 1 = ((2 ^ n - 1 : Nat) : Int) := by
        rcases bz_ok kd with e | e | e | e
        · exact ⟨32, by decide, e, by rw [e]; decide⟩
        · exact absurd e b64
        · exact ⟨8, by decide, e, by rw [e]; decide⟩
        · exact ⟨16, by decide, e, by rw [e]; decide⟩
      have p32 : (2 : Nat) ^ n ≤ 2 ^ 32 := Nat.pow_le_pow_right (by decide) n1
      have p0 : 0 < (2 : Nat) ^ n := Nat.pow_pos (by decide)
      have av : az kd v = v % (2 ^ n : Nat) := by rw [ea, n3, land_eq n1]
      have a1 : 0 ≤ az kd v := by rw [av]; exact Int.emod_nonneg _ (by omega)
      have a2 : az kd v < (2 ^ n : Nat) := by rw [av]; exact Int.emod_lt_of_pos _ (by omega)
      have a3 : az kd v < 4294967296 := by omega
      rw [ns_eq (by omega) (by omega), Int.sub_zero, n2, shl0 _ a1 a3, ushr0 n1 a1 a2, lor0 _ a1 a3]
    · rw [if_neg t0, cutz2]
