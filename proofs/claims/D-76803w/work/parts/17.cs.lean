/-! SETS OF COLUMNS as numbers -/
theorem zb_nat {a : Nat} (h : a < 2147483648) : (BitVec.ofInt 32 (a : Int)).toNat = a := by
  rw [BitVec.ofInt_natCast, BitVec.toNat_ofNat]; exact Nat.mod_eq_of_lt (by omega)
theorem zb_int {x : BitVec 32} {a : Nat} (h : x.toNat = a) (ha : a < 2147483648) : x.toInt = (a : Int) := by
  rw [BitVec.toInt_eq_toNat_of_lt (by omega), h]
theorem zor_nat {a b : Nat} (ha : a < 2147483648) (hb : b < 2147483648) : zor (a : Int) (b : Int) = ((a ||| b : Nat) : Int) := by
  have h1 : (BitVec.ofInt 32 (a : Int) ||| BitVec.ofInt 32 (b : Int)).toNat = a ||| b := by rw [BitVec.toNat_or, zb_nat ha, zb_nat hb]
  exact zb_int h1 (Nat.or_lt_two_pow (n := 31) ha hb)
theorem zand_nat {a b : Nat} (ha : a < 2147483648) (hb : b < 2147483648) : zand (a : Int) (b : Int) = ((a &&& b : Nat) : Int) := by
  have h1 : (BitVec.ofInt 32 (a : Int) &&& BitVec.ofInt 32 (b : Int)).toNat = a &&& b := by rw [BitVec.toNat_and, zb_nat ha, zb_nat hb]
  exact zb_int h1 (Nat.lt_of_le_of_lt Nat.and_le_left ha)
theorem zsh32 : ∀ k : Fin 32, ((BitVec.ofInt 32 ((k.val : Nat) : Int)) &&& 31#32).smod 32#32 = BitVec.ofNat 32 k.val := by decide +kernel
theorem zshl_nat {a k : Nat} (hk : k < 32) (h : a * 2 ^ k < 2147483648) : zshl (a : Int) (k : Int) = ((a <<< k : Nat) : Int) := by
  have ha : a < 2147483648 := Nat.lt_of_le_of_lt (Nat.le_mul_of_pos_right a (Nat.two_pow_pos k)) h
  have e : (BitVec.ofInt 32 (k : Int) &&& 31#32).smod 32#32 = BitVec.ofNat 32 k := zsh32 ⟨k, hk⟩
  have h1 : (BitVec.ofInt 32 (a : Int) <<< ((BitVec.ofInt 32 (k : Int) &&& 31#32).smod 32#32)).toNat = a <<< k := by
    rw [e, BitVec.shiftLeft_eq', BitVec.toNat_shiftLeft, BitVec.toNat_ofNat, zb_nat ha, Nat.mod_eq_of_lt (show k < 2 ^ 32 by omega), Nat.shiftLeft_eq, Nat.mod_eq_of_lt (by omega)]
  exact zb_int h1 (by rw [Nat.shiftLeft_eq]; exact h)
theorem zshr_nat {a k : Nat} (hk : k < 32) (ha : a < 2147483648) : zshr (a : Int) (k : Int) = ((a >>> k : Nat) : Int) := by
  have e : (BitVec.ofInt 32 (k : Int) &&& 31#32).smod 32#32 = BitVec.ofNat 32 k := zsh32 ⟨k, hk⟩
  have hm : (BitVec.ofInt 32 (a : Int)).msb = false := by rw [BitVec.msb_eq_false_iff_two_mul_lt, zb_nat ha]; omega
  have h1 : (BitVec.sshiftRight' (BitVec.ofInt 32 (a : Int)) ((BitVec.ofInt 32 (k : Int) &&& 31#32).smod 32#32)).toNat = a >>> k := by
    rw [e, BitVec.toNat_sshiftRight'_of_msb_false hm, BitVec.toNat_ofNat, zb_nat ha, Nat.mod_eq_of_lt (show k < 2 ^ 32 by omega)]
  exact zb_int h1 (Nat.lt_of_le_of_lt (Nat.shiftRight_le a k) ha)
def csN (p : Nat → Bool) : Nat → Nat
  | 0 => 0
  | n + 1 => csN p n ||| (if p n = true then 2 ^ n else 0)
theorem csN_bit (p : Nat → Bool) : ∀ n i, (csN p n).testBit i = (decide (i < n) && p i)
  | 0, i => by simp [csN]
  | n + 1, i => by
    rw [csN, Nat.testBit_or, csN_bit p n i]
    by_cases e : n = i
    · subst e
      by_cases h : p n = true
      · rw [if_pos h, Nat.testBit_two_pow]; simp [h]
      · rw [if_neg h]; simp at h; simp [h]
    · have e2 : decide (i < n + 1) = decide (i < n) := decide_eq_decide.mpr (by omega)
      rw [e2]
      by_cases h : p n = true
      · rw [if_pos h, Nat.testBit_two_pow]; simp [e]
      · rw [if_neg h]; simp
theorem csN_lt (p : Nat → Bool) : ∀ n, csN p n < 2 ^ n
  | 0 => by simp [csN]
  | n + 1 => by
    rw [csN]
    refine Nat.or_lt_two_pow (Nat.lt_of_lt_of_le (csN_lt p n) (Nat.pow_le_pow_right (by decide) (Nat.le_succ n))) ?_
    split
    · exact Nat.pow_lt_pow_right (by decide) (Nat.lt_succ_self n)
    · exact Nat.two_pow_pos _
/-- the columns that p holds of, as the program's number -/
def cset (p : Nat → Bool) : Int := ((csN p 16 : Nat) : Int)
theorem cset_lt (p : Nat → Bool) : 0 ≤ cset p ∧ cset p < 65536 := by
  have := csN_lt p 16; unfold cset; omega
theorem csN_lt31 (p : Nat → Bool) : csN p 16 < 2147483648 := by
  have := csN_lt p 16; omega
theorem zw_cset (p : Nat → Bool) : zw (cset p) = cset p := zw_id (by have := cset_lt p; omega) (by have := cset_lt p; omega)
theorem csN_congr {p q : Nat → Bool} : ∀ {n : Nat}, (∀ c, c < n → p c = q c) → csN p n = csN q n
  | 0, _ => rfl
  | n + 1, h => by rw [csN, csN, csN_congr (fun c hc => h c (Nat.lt_succ_of_lt hc)), h n (Nat.lt_succ_self n)]
theorem cset_congr {p q : Nat → Bool} (h : ∀ c, c < 16 → p c = q c) : cset p = cset q := by unfold cset; rw [csN_congr h]
theorem cset_or (p q : Nat → Bool) : zor (cset p) (cset q) = cset (fun c => p c || q c) := by
  unfold cset
  rw [zor_nat (csN_lt31 p) (csN_lt31 q)]
  congr 1
  refine Nat.eq_of_testBit_eq fun i => ?_
  rw [Nat.testBit_or, csN_bit, csN_bit, csN_bit]
  cases decide (i < 16) <;> simp
theorem cset_and (p q : Nat → Bool) : zand (cset p) (cset q) = cset (fun c => p c && q c) := by
  unfold cset
  rw [zand_nat (csN_lt31 p) (csN_lt31 q)]
  congr 1
  refine Nat.eq_of_testBit_eq fun i => ?_
  rw [Nat.testBit_and, csN_bit, csN_bit, csN_bit]
  cases decide (i < 16) <;> simp
theorem cset_none : cset (fun _ => false) = 0 := by
  have : ∀ n, csN (fun _ => false) n = 0 := fun n => by
    induction n with
    | zero => rfl
    | succ n ih => rw [csN, ih]; simp
  unfold cset; rw [this]; rfl
theorem cset_zero {p : Nat → Bool} : cset p = 0 ↔ ∀ c, c < 16 → p c = false := by
  refine ⟨fun h c hc => ?_, fun h => ?_⟩
  · have h2 : csN p 16 = 0 := by unfold cset at h; omega
    have := csN_bit p 16 c
    rw [h2] at this
    simpa [hc] using this.symm
  · rw [cset_congr h, cset_none]
theorem cset_at (p : Nat → Bool) {c : Nat} (hc : c < 16) : zand (zshr (cset p) (c : Int)) 1 = if p c = true then 1 else 0 := by
  unfold cset
  have h1 := csN_lt31 p
  rw [zshr_nat (by omega) h1, show (1 : Int) = ((1 : Nat) : Int) from rfl, zand_nat (Nat.lt_of_le_of_lt (Nat.shiftRight_le _ _) h1) (by decide)]
  have h2 : csN p 16 >>> c &&& 1 = (if p c = true then 1 else 0) := by
    have h3 := csN_bit p 16 c
    rw [Nat.testBit_eq_decide_div_mod_eq] at h3
    simp only [hc, decide_true, Bool.true_and] at h3
    rw [Nat.and_one_is_mod, Nat.shiftRight_eq_div_pow]
    split
    · next e => rw [e] at h3; simpa using h3
    · next e => simp at e; rw [e] at h3; simp at h3; omega
  rw [h2]
  split <;> rfl
theorem cset_bits {f w : Int} (hf : 0 ≤ f) (hw : 0 ≤ w) (h : f + w ≤ 16) : zshl (zshl 1 w - 1) f = cset (fun c => decide (f ≤ (c : Int)) && decide ((c : Int) < f + w)) := by
  obtain ⟨f, rfl⟩ := Int.eq_ofNat_of_zero_le hf
  obtain ⟨w, rfl⟩ := Int.eq_ofNat_of_zero_le hw
  have hw16 : w ≤ 16 := by omega
  have hp : 2 ^ w ≤ 2 ^ 16 := Nat.pow_le_pow_right (by decide) hw16
  have hq : 0 < 2 ^ w := Nat.two_pow_pos w
  rw [show (1 : Int) = ((1 : Nat) : Int) from rfl, zshl_nat (a := 1) (by omega) (by omega), Nat.one_shiftLeft,
    show ((2 ^ w : Nat) : Int) - ((1 : Nat) : Int) = ((2 ^ w - 1 : Nat) : Int) by omega]
  have hm : (2 ^ w - 1) * 2 ^ f < 2147483648 := by
    have : 2 ^ f ≤ 2 ^ 14 ∨ w ≤ 1 := by
      by_cases h2 : w ≤ 1
      · exact Or.inr h2
      · exact Or.inl (Nat.pow_le_pow_right (by decide) (by omega))
    have h16 : 2 ^ w * 2 ^ f ≤ 2 ^ 16 := by rw [← Nat.pow_add]; exact Nat.pow_le_pow_right (by decide) (by omega)
    have : (2 ^ w - 1) * 2 ^ f ≤ 2 ^ w * 2 ^ f := Nat.mul_le_mul_right _ (Nat.sub_le _ _)
    omega
  rw [zshl_nat (by omega) hm]
  unfold cset
  congr 1
  refine Nat.eq_of_testBit_eq fun i => ?_
  rw [Nat.testBit_shiftLeft, Nat.testBit_two_pow_sub_one, csN_bit]
  rw [← Bool.decide_and, ← Bool.decide_and, ← Bool.decide_and]
  exact decide_eq_decide.mpr (by omega)
