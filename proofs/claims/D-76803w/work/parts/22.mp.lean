/-! THE MODEL'S ROW: what it says -/
def anyN (f : Nat → Bool) : Nat → Bool
  | 0 => false
  | n + 1 => anyN f n || f n
def sumN (f : Nat → Int) : Nat → Int
  | 0 => 0
  | n + 1 => sumN f n + f n
theorem anyN_iff {f : Nat → Bool} : ∀ {n : Nat}, anyN f n = true ↔ ∃ i, i < n ∧ f i = true
  | 0 => by simp [anyN]
  | n + 1 => by
    rw [anyN, Bool.or_eq_true, anyN_iff]
    constructor
    · intro h
      rcases h with ⟨i, h1, h2⟩ | h
      · exact ⟨i, Nat.lt_succ_of_lt h1, h2⟩
      · exact ⟨n, Nat.lt_succ_self n, h⟩
    · intro ⟨i, h1, h2⟩
      by_cases e : i = n
      · subst e; exact Or.inr h2
      · exact Or.inl ⟨i, by omega, h2⟩
theorem anyN_none {f : Nat → Bool} {n : Nat} (h : ∀ i, i < n → f i = false) : anyN f n = false := by
  cases e : anyN f n with
  | false => rfl
  | true =>
    obtain ⟨i, h1, h2⟩ := anyN_iff.mp e
    rw [h i h1] at h2; cases h2
theorem sumN_congr {f g : Nat → Int} : ∀ {n : Nat}, (∀ i, i < n → f i = g i) → sumN f n = sumN g n
  | 0, _ => rfl
  | n + 1, h => by rw [sumN, sumN, sumN_congr fun i hi => h i (Nat.lt_succ_of_lt hi), h n (Nat.lt_succ_self n)]
theorem sumN_le {f : Nat → Int} {b : Int} : ∀ {n : Nat}, (∀ i, i < n → 0 ≤ f i ∧ f i ≤ b) → 0 ≤ sumN f n ∧ sumN f n ≤ n * b
  | 0, _ => by simp [sumN]
  | n + 1, h => by
    have h1 := sumN_le (f := f) (b := b) (n := n) fun i hi => h i (Nat.lt_succ_of_lt hi)
    have h2 := h n (Nat.lt_succ_self n)
    rw [sumN, Int.natCast_add, Int.add_mul]
    omega
theorem jx {j : Nat} {w : Int} (h : 0 ≤ w) : ((96 + ((j : Int) * 32)) + w).toNat = 96 + 32 * j + w.toNat := by omega
theorem jxa {w : Int} {a : Nat} (h : 0 ≤ w) : (w + (a : Int)).toNat = w.toNat + a := by omega
theorem sx {j : Nat} {w : Int} (h : 0 ≤ w) : ((24 + ((j : Int) * 6)) + w).toNat = 24 + 6 * j + w.toNat := by omega
/-- of a job -/
def jok (G : Nat → Int) (j : Nat) : Prop :=
  (0 ≤ G (96 + 32 * j) ∧ G (96 + 32 * j) ≤ 7) ∧ (0 ≤ G (96 + 32 * j + 1) ∧ G (96 + 32 * j + 1) ≤ 9) ∧
  (1 ≤ G (96 + 32 * j + 2) ∧ G (96 + 32 * j + 2) ≤ 150) ∧ (-1 ≤ G (96 + 32 * j + 3) ∧ G (96 + 32 * j + 3) < j) ∧
  (1 ≤ G (96 + 32 * j + 4) ∧ G (96 + 32 * j + 4) ≤ 4) ∧ (0 ≤ G (96 + 32 * j + 5) ∧ G (96 + 32 * j + 5) ≤ 4) ∧
  (-1 ≤ G (96 + 32 * j + 6) ∧ G (96 + 32 * j + 6) ≤ 200000) ∧ (-1 ≤ G (96 + 32 * j + 7) ∧ G (96 + 32 * j + 7) ≤ 200000) ∧
  (-1 ≤ G (96 + 32 * j + 8) ∧ G (96 + 32 * j + 8) ≤ 200000) ∧ (-1 ≤ G (96 + 32 * j + 9) ∧ G (96 + 32 * j + 9) ≤ 200000) ∧
  (0 ≤ G (96 + 32 * j + 10) ∧ G (96 + 32 * j + 10) ≤ 1) ∧ (0 ≤ G (96 + 32 * j + 11) ∧ G (96 + 32 * j + 11) ≤ 200000) ∧
  (G (96 + 32 * j + 5) = 1 → 0 ≤ G (96 + 32 * j + 6))
/-- of an arm -/
def aok (G : Nat → Int) (j a : Nat) : Prop :=
  (1 ≤ G (96 + 32 * j + (12 + a)) ∧ G (96 + 32 * j + (12 + a)) ≤ 16) ∧ (1 ≤ G (96 + 32 * j + (16 + a)) ∧ G (96 + 32 * j + (16 + a)) ≤ 200) ∧
  (-1 ≤ G (96 + 32 * j + (20 + a)) ∧ G (96 + 32 * j + (20 + a)) ≤ 15) ∧ (-1 ≤ G (96 + 32 * j + (24 + a)) ∧ G (96 + 32 * j + (24 + a)) ≤ 300000) ∧
  (G (96 + 32 * j + 5) = 1 → 0 ≤ G (96 + 32 * j + (20 + a)) ∧ G (96 + 32 * j + (20 + a)) + G (96 + 32 * j + (12 + a)) ≤ 16) ∧
  (0 ≤ G (96 + 32 * j + 9) → 0 ≤ G (96 + 32 * j + (28 + a)) ∧ G (96 + 32 * j + (28 + a)) + G (96 + 32 * j + (12 + a)) ≤ 16)
/-- of a span -/
def sok (G : Nat → Int) (x : Nat) : Prop :=
  (-1 ≤ G (24 + 6 * x) ∧ G (24 + 6 * x) ≤ 1000000) ∧ (0 ≤ G (24 + 6 * x) →
    (0 ≤ G (24 + 6 * x + 1) ∧ G (24 + 6 * x + 1) ≤ G (24 + 6 * x + 2) ∧ G (24 + 6 * x + 2) ≤ 15) ∧
    (0 ≤ G (24 + 6 * x + 3) ∧ G (24 + 6 * x + 3) < G (24 + 6 * x + 4) ∧ G (24 + 6 * x + 4) ≤ 200000) ∧ (-1 ≤ G (24 + 6 * x + 5) ∧ G (24 + 6 * x + 5) ≤ 7))
def hok (G : Nat → Int) : Prop :=
  (0 ≤ G 0 ∧ G 0 ≤ 150000) ∧ (0 ≤ G 1 ∧ G 1 ≤ 80) ∧ (0 ≤ G 2 ∧ G 2 ≤ 4) ∧ (0 ≤ G 3 ∧ G 3 ≤ 80) ∧ (0 ≤ G 4 ∧ G 4 ≤ 100) ∧
  (0 ≤ G 5 ∧ G 5 ≤ 1000000) ∧ (0 ≤ G 6 ∧ G 6 ≤ 80) ∧ (0 ≤ G 7 ∧ G 7 ≤ 60) ∧
  (∀ a, a < 8 → (1 ≤ G (8 + a) ∧ G (8 + a) ≤ 100) ∧ (0 ≤ G (16 + a) ∧ G (16 + a) ≤ 16))
def gok (G : Nat → Int) : Prop := hok G ∧ (∀ j : Nat, (j : Int) < G 1 → jok G j ∧ ∀ a : Nat, (a : Int) < G (96 + 32 * j + 4) → aok G j a) ∧ ∀ x, x < 12 → sok G x
/-- what is as if it were not there, and more arms -/
def skok (s : MS) : Prop :=
  (-1 ≤ s 0 114 ∧ s 0 114 ≤ 1000) ∧ (-1 ≤ s 0 115 ∧ s 0 115 ≤ 1000) ∧ (-1 ≤ s 0 116 ∧ s 0 116 ≤ 1000) ∧ (-1 ≤ s 0 117 ∧ s 0 117 ≤ 1000) ∧
  (0 ≤ s 0 118 ∧ s 0 118 ≤ 4) ∧ ∀ k : Nat, (k : Int) < s 0 118 → (0 ≤ s 11 k ∧ s 11 k < 65536) ∧ (0 ≤ s 12 k ∧ s 12 k ≤ 300000)
def hld (G : Nat → Int) (j a : Nat) : Bool := decide (G (96 + 32 * j + 5) = 1) && decide (G 0 < G (96 + 32 * j + (24 + a)))
def cov (f w : Int) (c : Nat) : Bool := decide (f ≤ (c : Int)) && decide ((c : Int) < f + w)
def heldc (G : Nat → Int) (j a c : Nat) : Bool := cov (G (96 + 32 * j + (20 + a))) (G (96 + 32 * j + (12 + a))) c
def promc (G : Nat → Int) (j a c : Nat) : Bool := cov (G (96 + 32 * j + (28 + a))) (G (96 + 32 * j + (12 + a))) c
def spanc (G : Nat → Int) (x c : Nat) : Bool := cov (G (24 + 6 * x + 1)) (G (24 + 6 * x + 2) - G (24 + 6 * x + 1) + 1) c
def csb (x : Int) (c : Nat) : Bool := x.toNat.testBit c
theorem cset_csb {x : Int} (h : 0 ≤ x) (h2 : x < 65536) : cset (csb x) = x := by
  obtain ⟨n, rfl⟩ := Int.eq_ofNat_of_zero_le h
  unfold cset csb
  congr 1
  refine Nat.eq_of_testBit_eq fun i => ?_
  rw [csN_bit]
  by_cases hi : i < 16
  · simp [hi]
  · have : n < 2 ^ i := Nat.lt_of_lt_of_le (show n < 2 ^ 16 by omega) (Nat.pow_le_pow_right (by decide) (by omega))
    simp [hi, Nat.testBit_lt_two_pow this]
theorem csb_cset {p : Nat → Bool} {c : Nat} (h : c < 16) : csb (cset p) c = p c := by
  unfold csb cset
  rw [Int.toNat_natCast, csN_bit]; simp [h]
theorem cset_cov {f w : Int} (hf : 0 ≤ f) (hw : 0 ≤ w) (h : f + w ≤ 16) : zshl (zshl 1 w - 1) f = cset (cov f w) := cset_bits hf hw h
theorem cset_or2 {p q r : Nat → Bool} {x y : Int} (hx : x = cset p) (hy : y = cset q) (h : ∀ c, c < 16 → (p c || q c) = r c) : zor x y = cset r := by
  rw [hx, hy, cset_or]; exact cset_congr h
/-- what an arm of a job keeps busy -/
def bzA1 (s : MS) (fr : Int) (j a c : Nat) : Bool :=
  hld (s 1) j a && decide (fr < s 1 (96 + 32 * j + 6) + s 1 (96 + 32 * j + (16 + a))) && decide (¬ (4 * (j : Int) + a = s 0 116)) && decide (¬ (4 * (j : Int) + a = s 0 117)) && heldc (s 1) j a c
def bzA2 (s : MS) (fr to : Int) (j a c : Nat) : Bool :=
  decide (0 ≤ s 1 (96 + 32 * j + 9)) && decide (¬ ((j : Int) = s 0 114)) && decide (¬ ((j : Int) = s 0 115)) && decide (fr < s 1 (96 + 32 * j + 9) + s 1 (96 + 32 * j + (16 + a))) && decide (s 1 (96 + 32 * j + 9) < to) && promc (s 1) j a c
def bzS (G : Nat → Int) (fr to acct : Int) (x c : Nat) : Bool :=
  decide (0 ≤ G (24 + 6 * x)) && decide (¬ G (24 + 6 * x + 5) = acct) && decide (fr < G (24 + 6 * x + 4)) && decide (G (24 + 6 * x + 3) < to) && spanc G x c
def bzM (s : MS) (fr : Int) (k c : Nat) : Bool := decide (fr < s 12 k) && csb (s 11 k) c
def bzJ (s : MS) (fr to : Int) (j c : Nat) : Bool := anyN (fun a => bzA1 s fr j a c || bzA2 s fr to j a c) (s 1 (96 + 32 * j + 4)).toNat
def bz (s : MS) (fr to acct : Int) (c : Nat) : Bool :=
  anyN (fun j => bzJ s fr to j c) (s 1 1).toNat || anyN (fun x => bzS (s 1) fr to acct x c) 12 || anyN (fun k => bzM s fr k c) (s 0 118).toNat
theorem anyN_s (f : Nat → Bool) (n : Nat) : anyN f (n + 1) = (anyN f n || f n) := rfl
theorem sumN_s (f : Nat → Int) (n : Nat) : sumN f (n + 1) = sumN f n + f n := rfl
/-! THE MODEL: busy -/
theorem l_busy_261 {d : Nat} {Q : ZQ} {H : ZH} {m : Nat} {s : MS} {fr to acct : Int} (hM : MI H m) (hk : skok s) (hf : 0 ≤ fr ∧ fr ≤ 5000000000) (h : Q [zI (cset (bz s fr to acct))] (mput H m s)) :
    ∀ n k : Nat, ∀ x6 : Int, (k : Int) + n = s 0 118 → x6 = cset (fun c => (anyN (fun j => bzJ s fr to j c) (s 1 1).toNat || anyN (fun x => bzS (s 1) fr to acct x c) 12) || anyN (fun k => bzM s fr k c) k) →
    zwp (zcall ztb (d + 2)) t_X6_busy Q 261 [some (zR m), some (zJ fr), none, none, none, none, some (zI x6), some (zI k), none, none] [] (mput H m s) := by
  obtain ⟨_, _, _, _, hmm, hm⟩ := hk
  intro n
  induction n with
  | zero =>
    intro k x6 hn hx
    apply bm_X6_busy_261 hM
    simp (disch := omega) only [zw_id]
    refine ⟨fun _ => ?_, fun e => absurd e (by omega)⟩
    rw [hx, show k = (s 0 118).toNat by omega]; exact h
  | succ n ih =>
    intro k x6 hn hx
    have hk := hm k (by omega)
    apply bm_X6_busy_261 hM
    simp (disch := omega) only [zw_id, zwl_id, Int.toNat_natCast]
    refine ⟨fun e => absurd e (by omega), fun _ => ⟨by omega, fun e => ?_, fun e => ⟨by omega, ?_⟩⟩⟩
    · refine ih (k + 1) _ (by omega) (cset_or2 hx cset_none.symm fun c hc => ?_)
      have : bzM s fr k c = false := by unfold bzM; simp; intro h; omega
      rw [anyN_s _ k, this]; simp
    · refine ih (k + 1) _ (by omega) (cset_or2 hx (cset_csb (by omega) (by omega)).symm fun c hc => ?_)
      have : bzM s fr k c = csb (s 11 k) c := by unfold bzM; simp; intro h; omega
      rw [anyN_s _ k, this]; simp [Bool.or_assoc]
theorem l_busy_187 {d : Nat} {Q : ZQ} {H : ZH} {m : Nat} {s : MS} {fr to acct : Int} (hM : MI H m) (hg : gok (s 1)) (hk : skok s) (hf : 0 ≤ fr ∧ fr ≤ 5000000000) (ht : 0 ≤ to ∧ to ≤ 5000000000) (hac : -2 ≤ acct ∧ acct ≤ 7)
    (h : Q [zI (cset (bz s fr to acct))] (mput H m s)) :
    ∀ n x : Nat, ∀ x6 : Int, x + n = 12 → x6 = cset (fun c => anyN (fun j => bzJ s fr to j c) (s 1 1).toNat || anyN (fun x => bzS (s 1) fr to acct x c) x) →
    zwp (zcall ztb (d + 2)) t_X6_busy Q 187 [some (zR m), some (zJ fr), none, some (zJ to), none, some (zI acct), some (zI x6), some (zI x), none, none] [] (mput H m s) := by
  intro n
  induction n with
  | zero =>
    intro x x6 hn hx
    have hx12 : x = 12 := by omega
    subst hx12
    apply bm_X6_busy_187 hM
    refine ⟨fun _ => ?_, fun e => absurd (by decide) e⟩
    exact l_busy_261 hM hk hf h (s 0 118).toNat 0 x6 (by have := hk.2.2.2.2.1; omega) (by rw [hx]; simp [anyN])
  | succ n ih =>
    intro x x6 hn hx
    have hs := hg.2.2 x (by omega)
    unfold sok at hs
    apply bm_X6_busy_187 hM
    simp (disch := omega) only [zw_id, zwl_id, sx, Int.toNat_natCast, Int.reduceToNat, Nat.add_zero]
    refine ⟨fun e => absurd e (by omega), fun _ => ⟨by omega, ?_⟩⟩
    have hno : (∀ c, bzS (s 1) fr to acct x c = false) → x6 = cset (fun c => anyN (fun j => bzJ s fr to j c) (s 1 1).toNat || anyN (fun x => bzS (s 1) fr to acct x c) (x + 1)) := by
      intro h0; rw [hx]; exact cset_congr fun c _ => by rw [anyN_s, h0]; simp
    refine ⟨fun e => ih (x + 1) _ (by omega) (hno fun c => ?_), fun e => ?_⟩
    · unfold bzS; simp; intros; omega
    obtain ⟨h0, h1, h2, h3⟩ := (⟨hs.1, hs.2 (by omega)⟩ : _ ∧ _)
    simp (disch := omega) only [zw_id]
    refine ⟨by omega, fun e => ih (x + 1) _ (by omega) (hno fun c => ?_), fun e => ⟨by omega, fun e => ih (x + 1) _ (by omega) (hno fun c => ?_), fun e => ⟨by omega, fun e => ih (x + 1) _ (by omega) (hno fun c => ?_), fun e => ⟨by omega, by omega, ?_⟩⟩⟩⟩
    · unfold bzS; simp; intros; omega
    · unfold bzS; simp; intros; omega
    · unfold bzS; simp; intros; omega
    · refine ih (x + 1) _ (by omega) (cset_or2 hx (cset_cov (by omega) (by omega) (by omega)) fun c hc => ?_)
      have : bzS (s 1) fr to acct x c = spanc (s 1) x c := by unfold bzS; simp; intros; omega
      rw [anyN_s, this]; simp [Bool.or_assoc, spanc]
theorem l_busy_6 {d : Nat} {Q : ZQ} {H : ZH} {m : Nat} {s : MS} {fr to acct : Int} (hM : MI H m) (hg : gok (s 1)) (hk : skok s) (hf : 0 ≤ fr ∧ fr ≤ 5000000000) (ht : 0 ≤ to ∧ to ≤ 5000000000) (hac : -2 ≤ acct ∧ acct ≤ 7)
    (h : Q [zI (cset (bz s fr to acct))] (mput H m s)) :
    ∀ n j : Nat, ∀ x6 : Int, (j : Int) + n = s 1 1 → x6 = cset (fun c => anyN (fun j => bzJ s fr to j c) j) →
    zwp (zcall ztb (d + 2)) t_X6_busy Q 6 [some (zR m), some (zJ fr), none, some (zJ to), none, some (zI acct), some (zI x6), some (zI j), none, none] [] (mput H m s) := by
  have hh := hg.1
  unfold hok at hh
  intro n
  induction n with
  | zero =>
    intro j x6 hn hx
    apply bm_X6_busy_6 hM
    simp (disch := omega) only [zw_id]
    refine ⟨fun _ => ?_, fun e => absurd e (by omega)⟩
    exact l_busy_187 hM hg hk hf ht hac h 12 0 x6 rfl (by rw [hx, show j = (s 1 1).toNat by omega]; simp [anyN])
  | succ n ih =>
    intro j x6 hn hx
    obtain ⟨hj, ha⟩ := hg.2.1 j (by omega)
    unfold jok at hj
    obtain ⟨hk1, hk2, hk3, hk4, _, _⟩ := hk
    have inner : ∀ i a : Nat, ∀ x6 : Int, (a : Int) + i = s 1 (96 + 32 * j + 4) → x6 = cset (fun c => anyN (fun j => bzJ s fr to j c) j || anyN (fun a => bzA1 s fr j a c || bzA2 s fr to j a c) a) →
        zwp (zcall ztb (d + 2)) t_X6_busy Q 30 [some (zR m), some (zJ fr), none, some (zJ to), none, some (zI acct), some (zI x6), some (zI j), some (zI (s 1 (96 + 32 * j + 9))), some (zI a)] [] (mput H m s) := by
      intro i
      induction i with
      | zero =>
        intro a x6 hi hx6
        apply bm_X6_busy_30 hM
        simp (disch := omega) only [zw_id, jx, Int.reduceToNat, Nat.add_zero]
        refine ⟨by omega, fun _ => ?_, fun e => absurd e (by omega)⟩
        refine ih (j + 1) _ (by omega) ?_
        rw [hx6, show a = (s 1 (96 + 32 * j + 4)).toNat by omega]
        exact cset_congr fun c _ => by simp [anyN, bzJ]
      | succ i ih2 =>
        intro a x6 hi hx6
        have hA := ha a (by omega)
        unfold aok at hA
        have step2 : ∀ y : Int, y = cset (fun c => (anyN (fun j => bzJ s fr to j c) j || anyN (fun a => bzA1 s fr j a c || bzA2 s fr to j a c) a) || bzA1 s fr j a c) →
            zwp (zcall ztb (d + 2)) t_X6_busy Q 108 [some (zR m), some (zJ fr), none, some (zJ to), none, some (zI acct), some (zI y), some (zI j), some (zI (s 1 (96 + 32 * j + 9))), some (zI a)] [] (mput H m s) := by
          intro y hy
          have hno : (∀ c, bzA2 s fr to j a c = false) → y = cset (fun c => anyN (fun j => bzJ s fr to j c) j || anyN (fun a => bzA1 s fr j a c || bzA2 s fr to j a c) (a + 1)) := by
            intro h0; rw [hy]; exact cset_congr fun c _ => by rw [anyN_s, h0]; simp [Bool.or_assoc]
          apply bm_X6_busy_108 hM
          simp (disch := omega) only [zw_id, zwl_id, jx, jxa, Int.reduceToNat, Nat.add_zero]
          refine ⟨fun e => ih2 (a + 1) _ (by omega) (hno fun c => ?_), fun e => ⟨fun e => ih2 (a + 1) _ (by omega) (hno fun c => ?_), fun e => ⟨fun e => ih2 (a + 1) _ (by omega) (hno fun c => ?_), fun e => ⟨by omega, fun e => ih2 (a + 1) _ (by omega) (hno fun c => ?_), fun e => ⟨fun e => ih2 (a + 1) _ (by omega) (hno fun c => ?_), fun e => ⟨by omega, by omega, ?_⟩⟩⟩⟩⟩⟩
          · unfold bzA2; simp; intros; omega
          · unfold bzA2; simp; intros; omega
          · unfold bzA2; simp; intros; omega
          · unfold bzA2; simp; intros; omega
          · unfold bzA2; simp; intros; omega
          · refine ih2 (a + 1) _ (by omega) (cset_or2 hy (cset_cov (by omega) (by omega) (by omega)) fun c hc => ?_)
            have : bzA2 s fr to j a c = promc (s 1) j a c := by unfold bzA2; simp; intros; omega
            rw [anyN_s, this]; simp [Bool.or_assoc, promc]
        have hno : (∀ c, bzA1 s fr j a c = false) → x6 = cset (fun c => (anyN (fun j => bzJ s fr to j c) j || anyN (fun a => bzA1 s fr j a c || bzA2 s fr to j a c) a) || bzA1 s fr j a c) := by
          intro h0; rw [hx6]; exact cset_congr fun c _ => by rw [h0]; simp
        apply bm_X6_busy_30 hM
        simp (disch := omega) only [zw_id, zwl_id, jx, jxa, Int.reduceToNat, Nat.add_zero]
        refine ⟨by omega, fun e => absurd e (by omega), fun _ => ⟨by omega, fun e => step2 _ (hno fun c => ?_), fun e => ⟨by omega, fun e => step2 _ (hno fun c => ?_), fun e => ⟨by omega, by omega, fun e => step2 _ (hno fun c => ?_), fun e => ⟨fun e => step2 _ (hno fun c => ?_), fun e => ⟨fun e => step2 _ (hno fun c => ?_), fun e => ⟨by omega, by omega, ?_⟩⟩⟩⟩⟩⟩⟩
        · unfold bzA1 hld; simp; intros; omega
        · unfold bzA1 hld; simp; intros; omega
        · unfold bzA1 hld; simp; intros; omega
        · unfold bzA1 hld; simp; intros; omega
        · unfold bzA1 hld; simp; intros; omega
        · refine step2 _ (cset_or2 hx6 (cset_cov (by omega) (by omega) (by omega)) fun c hc => ?_)
          have : bzA1 s fr j a c = heldc (s 1) j a c := by unfold bzA1 hld; simp; intros; omega
          rw [this]; simp [heldc]
    apply bm_X6_busy_6 hM
    simp (disch := omega) only [zw_id, jx, Int.reduceToNat, Nat.add_zero]
    refine ⟨fun e => absurd e (by omega), fun _ => ⟨by omega, ?_⟩⟩
    exact inner (s 1 (96 + 32 * j + 4)).toNat 0 x6 (by omega) (by rw [hx]; simp [anyN])
theorem c_busy {d : Nat} {Q : ZQ} {H : ZH} {m : Nat} {s : MS} {fr to acct : Int} (hM : MI H m) (hg : gok (s 1)) (hk : skok s) (hf : 0 ≤ fr ∧ fr ≤ 5000000000) (ht : 0 ≤ to ∧ to ≤ 5000000000) (hac : -2 ≤ acct ∧ acct ≤ 7)
    (h : Q [zI (cset (bz s fr to acct))] (mput H m s)) : zcall ztb (d + 3) mX6_busy [zR m, zJ fr, zJ to, zI acct] (mput H m s) Q :=
  bm_X6_busy hM (l_busy_6 hM hg hk hf ht hac h (s 1 1).toNat 0 0 (by have := hg.1; unfold hok at this; omega) (by simp [anyN, cset_none]))
/-! THE MODEL: placing (what it means) -/
def mset (s : MS) (k : Nat) (f : Nat → Int) : MS := fun k' => if k' = k then f else s k'
def zupd (f : Nat → Int) (i : Nat) (v : Int) : Nat → Int := fun j => if j = i then v else f j
theorem mse {s : MS} {k : Nat} {f : Nat → Int} : mset s k f k = f := if_pos rfl
theorem msn {s : MS} {k k' : Nat} {f : Nat → Int} (h : ¬ k' = k) : mset s k f k' = s k' := if_neg h
theorem mup_mset (s : MS) (k i : Nat) (v : Int) : mup s k i v = mset s k (zupd (s k) i v) := by
  funext k' i'
  unfold mup mset zupd
  by_cases h : k' = k
  · subst h; by_cases h2 : i' = i <;> simp [h2]
  · simp [h]
theorem mset_mset (s : MS) (k : Nat) (f g : Nat → Int) : mset (mset s k f) k g = mset s k g := by
  funext k'; unfold mset; split <;> rfl
theorem mset_self (s : MS) (k : Nat) : mset s k (s k) = s := by
  funext k'; unfold mset; split
  · next e => rw [e]
  · rfl
theorem mset_comm (s : MS) {k l : Nat} (f g : Nat → Int) (h : ¬ k = l) : mset (mset s k f) l g = mset (mset s l g) k f := by
  funext k'; unfold mset
  by_cases h1 : k' = k
  · subst h1; simp [h]
  · have h3 : ¬ l = k := fun e => h e.symm
    by_cases h2 : k' = l <;> simp [h1, h2, h3]
theorem ude {f : Nat → Int} {i : Nat} {v : Int} : zupd f i v i = v := if_pos rfl
theorem udn {f : Nat → Int} {i j : Nat} {v : Int} (h : ¬ j = i) : zupd f i v j = f j := if_neg h
theorem upd_self (f : Nat → Int) (i : Nat) : zupd f i (f i) = f := by
  funext j; unfold zupd; split
  · next e => rw [e]
  · rfl
/-- the arms that are to be placed -/
def amok (s : MS) : Prop := (-2 ≤ s 0 109 ∧ s 0 109 ≤ 7) ∧ (0 ≤ s 0 110 ∧ s 0 110 ≤ 4) ∧ ∀ k : Nat, (k : Int) < s 0 110 → (1 ≤ s 8 k ∧ s 8 k ≤ 16) ∧ (1 ≤ s 9 k ∧ s 9 k ≤ 200)
/-- the widest of those among the first a that are not placed -/
def fnx (w : Nat → Int) (pl : Nat → Bool) : Nat → Int
  | 0 => -1
  | a + 1 => if pl a = false ∧ (fnx w pl a < 0 ∨ w (fnx w pl a).toNat < w a) then a else fnx w pl a
theorem fnx_b (w : Nat → Int) (pl : Nat → Bool) : ∀ a, -1 ≤ fnx w pl a ∧ fnx w pl a < a ∧ (0 ≤ fnx w pl a → pl (fnx w pl a).toNat = false) ∧ (fnx w pl a < 0 → ∀ b, b < a → pl b = true)
  | 0 => by simp [fnx]
  | a + 1 => by
    obtain ⟨h1, h2, h3, h4⟩ := fnx_b w pl a
    rw [fnx]
    split
    · next h => refine ⟨by omega, by omega, fun _ => ?_, fun _ => by omega⟩; rw [Int.toNat_natCast]; exact h.1
    · next h =>
      refine ⟨by omega, by omega, h3, fun e b hb => ?_⟩
      by_cases hb2 : b = a
      · subst hb2
        cases hp : pl b with
        | true => rfl
        | false => exact absurd ⟨hp, Or.inl e⟩ h
      · exact h4 e b (by omega)
/-- after n arms: the columns taken, the arms placed, where, whether all went well -/
def fitS (s : MS) (t : Int) : Nat → (Nat → Bool) × (Nat → Bool) × (Nat → Int) × Bool
  | 0 => (fun _ => false, fun _ => false, fun _ => 0, true)
  | n + 1 =>
    if (fitS s t n).2.2.2 = false then fitS s t n
    else if plc (fun c => bz s t (t + s 9 (fnx (s 8) (fitS s t n).2.1 (s 0 110).toNat).toNat) (s 0 109) c || (fitS s t n).1 c) (s 8 (fnx (s 8) (fitS s t n).2.1 (s 0 110).toNat).toNat) < 0 then
      ((fitS s t n).1, (fitS s t n).2.1, (fitS s t n).2.2.1, false)
    else (fun c => (fitS s t n).1 c || cov (plc (fun c => bz s t (t + s 9 (fnx (s 8) (fitS s t n).2.1 (s 0 110).toNat).toNat) (s 0 109) c || (fitS s t n).1 c) (s 8 (fnx (s 8) (fitS s t n).2.1 (s 0 110).toNat).toNat)) (s 8 (fnx (s 8) (fitS s t n).2.1 (s 0 110).toNat).toNat) c,
      fun a => (fitS s t n).2.1 a || decide (a = (fnx (s 8) (fitS s t n).2.1 (s 0 110).toNat).toNat),
      zupd (fitS s t n).2.2.1 (fnx (s 8) (fitS s t n).2.1 (s 0 110).toNat).toNat (plc (fun c => bz s t (t + s 9 (fnx (s 8) (fitS s t n).2.1 (s 0 110).toNat).toNat) (s 0 109) c || (fitS s t n).1 c) (s 8 (fnx (s 8) (fitS s t n).2.1 (s 0 110).toNat).toNat)), true)
theorem bz_10 (s : MS) (f : Nat → Int) : bz (mset s 10 f) = bz s := rfl
theorem fitS_10 (s : MS) (f : Nat → Int) (t : Int) : ∀ n, fitS (mset s 10 f) t n = fitS s t n
  | 0 => rfl
  | n + 1 => by
    rw [fitS, fitS, fitS_10 s f t n, bz_10]
    simp only [msn (show ¬ 8 = 10 by omega), msn (show ¬ 9 = 10 by omega), msn (show ¬ 0 = 10 by omega)]
def fitOK (s : MS) (t : Int) : Bool := (fitS s t (s 0 110).toNat).2.2.2
def fitF (s : MS) (t : Int) : Nat → Int := (fitS s t (s 0 110).toNat).2.2.1
theorem fitOK_10 (s : MS) (f : Nat → Int) (t : Int) : fitOK (mset s 10 f) t = fitOK s t := by unfold fitOK; rw [fitS_10]; rfl
theorem fitF_10 (s : MS) (f : Nat → Int) (t : Int) : fitF (mset s 10 f) t = fitF s t := by unfold fitF; rw [fitS_10]; rfl
/-- where place puts a run: within the columns -/
theorem plS_r (p : Nat → Bool) (w : Int) : ∀ c : Nat, c ≤ 17 → ((plS p w c).1 = -1 ∨ 0 ≤ (plS p w c).1 ∧ (plS p w c).1 + w ≤ 16 ∧ ∀ i : Nat, (plS p w c).1 ≤ i → (i : Int) < (plS p w c).1 + w → p i = false) ∧
    ∀ i : Nat, (c : Int) - (plS p w c).2.2 ≤ i → i < c → p i = false ∧ i < 16
  | 0, _ => by simp [plS]
  | c + 1, h => by
    obtain ⟨ih1, ih2⟩ := plS_r p w c (by omega)
    have hb := plS_b p w c (by omega)
    rw [plS]
    split
    · next hc =>
      refine ⟨ih1, fun i h1 h2 => ?_⟩
      dsimp only at h1
      by_cases e : i = c
      · subst e; exact ⟨hc.2, hc.1⟩
      · exact ih2 i (by omega) (by omega)
    · split
      · next hc =>
        refine ⟨Or.inr ⟨?_, ?_, fun i h1 h2 => ?_⟩, fun i h1 h2 => ?_⟩
        · dsimp only; omega
        · dsimp only
          by_cases h0 : w ≤ 0
          · have := hb; omega
          · have := ih2 (c - 1) (by omega) (by omega); omega
        · dsimp only at h1 h2; exact (ih2 i h1 (by omega)).1
        · dsimp only at h1; omega
      · refine ⟨ih1, fun i h1 h2 => ?_⟩
        dsimp only at h1; omega
theorem plc_r (p : Nat → Bool) (w : Int) : plc p w = -1 ∨ 0 ≤ plc p w ∧ plc p w + w ≤ 16 ∧ ∀ i : Nat, plc p w ≤ i → (i : Int) < plc p w + w → p i = false := (plS_r p w 17 (by omega)).1
/-- the least v behind t that P holds of; none -/
def mnr (t : Int) (P : Int → Prop) (b : Int) : Prop := (b = -1 ∧ ∀ v, P v → v ≤ t) ∨ (t < b ∧ P b ∧ ∀ v, P v → t < v → b ≤ v)
def snr (v t b : Int) : Int := if t < v ∧ (b < 0 ∨ v < b) then v else b
theorem mnr_u {t : Int} {P : Int → Prop} {b c : Int} (h1 : mnr t P b) (h2 : mnr t P c) : b = c := by
  rcases h1 with ⟨a1, a2⟩ | ⟨a1, a2, a3⟩ <;> rcases h2 with ⟨b1, b2⟩ | ⟨b1, b2, b3⟩
  · omega
  · have := a2 c b2; omega
  · have := b2 b a2; omega
  · have := a3 c b2 b1; have := b3 b a2 a1; omega
theorem mnr_0 {t : Int} {P : Int → Prop} (h : ∀ v, ¬ P v) : mnr t P (-1) := Or.inl ⟨rfl, fun v hv => absurd hv (h v)⟩
theorem mnr_c {t : Int} {P P' : Int → Prop} {b : Int} (h : mnr t P b) (hp : ∀ v, P' v ↔ P v) : mnr t P' b := by
  have : P' = P := funext fun v => propext (hp v)
  rw [this]; exact h
theorem mnr_s {t : Int} {P P' : Int → Prop} {b v e : Int} (ht : 0 ≤ t) (h : mnr t P b) (hp : ∀ x, P' x ↔ P x ∨ x = v) (he : e = snr v t b) : mnr t P' e := by
  subst he
  unfold snr
  rcases h with ⟨a1, a2⟩ | ⟨a1, a2, a3⟩
  · split
    · refine Or.inr ⟨by omega, (hp v).mpr (Or.inr rfl), fun x hx hx2 => ?_⟩
      rcases (hp x).mp hx with h | h
      · have := a2 x h; omega
      · omega
    · refine Or.inl ⟨by omega, fun x hx => ?_⟩
      rcases (hp x).mp hx with h | h
      · exact a2 x h
      · omega
  · split
    · refine Or.inr ⟨by omega, (hp v).mpr (Or.inr rfl), fun x hx hx2 => ?_⟩
      rcases (hp x).mp hx with h | h
      · have := a3 x h hx2; omega
      · omega
    · refine Or.inr ⟨by omega, (hp b).mpr (Or.inl a2), fun x hx hx2 => ?_⟩
      rcases (hp x).mp hx with h | h
      · exact a3 x h hx2
      · omega
theorem mnr_1 {t : Int} {P P' : Int → Prop} {b v e : Int} {A : Bool} (ht : 0 ≤ t) (h : mnr t P b) (hp : ∀ x, P' x ↔ P x ∨ (A = true ∧ x = v)) (he : e = if A = true then snr v t b else b) : mnr t P' e := by
  cases A with
  | true => exact mnr_s ht h (by simpa using hp) (by simpa using he)
  | false => rw [show e = b by simpa using he]; exact mnr_c h (by simpa using hp)
theorem mnr_2 {t : Int} {P P' : Int → Prop} {b v1 v2 e : Int} {A B : Bool} (ht : 0 ≤ t) (h : mnr t P b) (hp : ∀ x, P' x ↔ (P x ∨ (A = true ∧ x = v1)) ∨ (B = true ∧ x = v2))
    (he : e = if B = true then snr v2 t (if A = true then snr v1 t b else b) else if A = true then snr v1 t b else b) : mnr t P' e :=
  mnr_1 ht (mnr_1 ht h (fun _ => Iff.rfl) rfl) hp he
theorem exS {P : Nat → Prop} {n : Nat} : (∃ i, i < n + 1 ∧ P i) ↔ (∃ i, i < n ∧ P i) ∨ P n := by
  constructor
  · intro ⟨i, h1, h2⟩
    by_cases e : i = n
    · subst e; exact Or.inr h2
    · exact Or.inl ⟨i, by omega, h2⟩
  · intro h
    rcases h with ⟨i, h1, h2⟩ | h
    · exact ⟨i, by omega, h2⟩
    · exact ⟨n, by omega, h⟩
/-- ticks at which something may be other -/
def cA (s : MS) (j a : Nat) (v : Int) : Prop := (hld (s 1) j a = true ∧ v = s 1 (96 + 32 * j + 6) + s 1 (96 + 32 * j + (16 + a))) ∨ (decide (0 ≤ s 1 (96 + 32 * j + 9)) = true ∧ v = s 1 (96 + 32 * j + 9) + s 1 (96 + 32 * j + (16 + a)))
def cK (s : MS) (j k : Nat) (v : Int) : Prop := decide (0 ≤ s 1 (96 + 32 * j + 9)) = true ∧ v = s 1 (96 + 32 * j + 9) - s 9 k + 1
def cJ (s : MS) (j : Nat) (v : Int) : Prop := (∃ a, a < (s 1 (96 + 32 * j + 4)).toNat ∧ cA s j a v) ∨ ∃ k, k < (s 0 110).toNat ∧ cK s j k v
def cS (s : MS) (x : Nat) (v : Int) : Prop := 0 ≤ s 1 (24 + 6 * x) ∧ (v = s 1 (24 + 6 * x + 4) ∨ ∃ k, k < (s 0 110).toNat ∧ v = s 1 (24 + 6 * x + 3) - s 9 k + 1)
def chg (s : MS) (v : Int) : Prop := (∃ j, j < (s 1 1).toNat ∧ cJ s j v) ∨ ∃ x, x < 12 ∧ cS s x v
/-- the first tick from t on at which the arms fit -/
def fsR (s : MS) : Nat → Int → Int → Prop
  | 0, t, r => (t < 0 ∨ s 1 0 + 20000 < t) ∧ r = -1
  | n + 1, t, r => if t < 0 ∨ s 1 0 + 20000 < t then r = -1 else if fitOK s t = true then r = t else ∃ b, mnr t (chg s) b ∧ fsR s n b r
theorem fsR_u (s : MS) : ∀ n t r r', fsR s n t r → fsR s n t r' → r = r'
  | 0, t, r, r', h1, h2 => by rw [h1.2, h2.2]
  | n + 1, t, r, r', h1, h2 => by
    rw [fsR] at h1 h2
    split at h1
    · next e => rw [if_pos e] at h2; rw [h1, h2]
    · next e =>
      rw [if_neg e] at h2
      split at h1
      · next e2 => rw [if_pos e2] at h2; rw [h1, h2]
      · next e2 =>
        rw [if_neg e2] at h2
        obtain ⟨b, hb, h1⟩ := h1
        obtain ⟨c, hc, h2⟩ := h2
        rw [mnr_u hb hc] at h1
        exact fsR_u s n c r r' h1 h2
/-- a job's arms are to be placed -/
def tkS (s : MS) (j : Nat) : MS :=
  mset (mset (mset s 0 (zupd (zupd (s 0) 109 (s 1 (96 + 32 * j))) 110 (s 1 (96 + 32 * j + 4)))) 8 (fun a => if (a : Int) < s 1 (96 + 32 * j + 4) then s 1 (96 + 32 * j + (12 + a)) else s 8 a))
    9 (fun a => if (a : Int) < s 1 (96 + 32 * j + 4) then s 1 (96 + 32 * j + (16 + a)) else s 9 a)
def fbits (s : MS) (c : Nat) : Bool := anyN (fun a => cov (s 10 a) (s 8 a) c) (s 0 110).toNat
/-! THE MODEL: fits, foundBits, takes -/
theorem fitS_stop {s : MS} {t : Int} {n : Nat} (h : (fitS s t n).2.2.2 = false) : ∀ k, (fitS s t (n + k)).2.2.2 = false
  | 0 => h
  | k + 1 => by rw [← Nat.add_assoc, fitS, if_pos (fitS_stop h k)]; exact fitS_stop h k
theorem csz {p : Nat → Bool} {c : Nat} (hc : c < 16) : (zw (zand (zshr (cset p) (c : Int)) 1) = 0) ↔ p c = false := by
  rw [cset_at p hc]
  cases h : p c with
  | true => simp; decide
  | false => simp; decide
theorem cov1 {k : Nat} (hk : k < 16) : zshl 1 (k : Int) = cset (fun a => decide (a = k)) := by
  have h := @cset_bits (k : Int) 1 (by omega) (by omega) (by omega)
  rw [show zshl 1 1 - 1 = 1 by decide] at h
  rw [h]
  exact cset_congr fun c _ => by rw [← Bool.decide_and]; exact decide_eq_decide.mpr (by omega)
/-- how many of a row are marked -/
def cntN (p : Nat → Bool) : Nat → Nat
  | 0 => 0
  | n + 1 => cntN p n + (if p n = true then 1 else 0)
theorem cntN_le (p : Nat → Bool) : ∀ n, cntN p n ≤ n
  | 0 => Nat.le_refl 0
  | n + 1 => by have := cntN_le p n; rw [cntN]; split <;> omega
theorem cntN_all {p : Nat → Bool} : ∀ {n : Nat}, (∀ b, b < n → p b = true) → cntN p n = n
  | 0, _ => rfl
  | n + 1, h => by rw [cntN, cntN_all fun b hb => h b (by omega), if_pos (h n (by omega))]
theorem cntN_none : ∀ n, cntN (fun _ => false) n = 0
  | 0 => rfl
  | n + 1 => by rw [cntN, cntN_none n]; rfl
theorem cntN_full {p : Nat → Bool} : ∀ {n : Nat}, cntN p n = n → ∀ b, b < n → p b = true
  | 0, _, b, hb => absurd hb (by omega)
  | n + 1, h, b, hb => by
    have h1 := cntN_le p n
    rw [cntN] at h
    split at h
    · next e =>
      by_cases hbn : b = n
      · subst hbn; exact e
      · exact cntN_full (n := n) (by omega) b (by omega)
    · omega
theorem cntN_add {p : Nat → Bool} {k : Nat} (hp : p k = false) : ∀ n, cntN (fun a => p a || decide (a = k)) n = cntN p n + (if k < n then 1 else 0)
  | 0 => by simp [cntN]
  | n + 1 => by
    rw [cntN, cntN, cntN_add hp n]
    by_cases h : n = k
    · subst h; simp [hp]
    · have e1 : (p n || decide (n = k)) = p n := by simp [h]
      rw [e1]
      by_cases h2 : k < n
      · have h3 : k < n + 1 := by omega
        simp only [if_pos h2, if_pos h3]; omega
      · have h3 : ¬ k < n + 1 := by omega
        simp only [if_neg h2, if_neg h3]; omega
theorem ifr {X : Int} {n : Nat} (h : (n : Int) = X) (A B : Nat → Int) : (fun a : Nat => if (a : Int) < X then A a else B a) = (fun a => if a < n then A a else B a) := by
  funext a
  by_cases q : a < n
  · rw [if_pos q, if_pos (by omega)]
  · rw [if_neg q, if_neg (by omega)]
/-- as many arms are placed as were gone through -/
theorem fitS_cnt {s : MS} {t : Int} : ∀ n : Nat, (n : Int) ≤ s 0 110 → (fitS s t n).2.2.2 = true → cntN (fitS s t n).2.1 (s 0 110).toNat = n ∧ ∀ a, (fitS s t n).2.1 a = true → (a : Int) < s 0 110
  | 0, _, _ => ⟨cntN_none _, fun a ha => by simp [fitS] at ha⟩
  | n + 1, hn, h => by
    have hok : (fitS s t n).2.2.2 = true := by
      cases e : (fitS s t n).2.2.2 with
      | true => rfl
      | false => have := fitS_stop e 1; rw [this] at h; cases h
    obtain ⟨ih, ih2⟩ := fitS_cnt n (by omega) hok
    obtain ⟨b1, b2, b3, b4⟩ := fnx_b (s 8) (fitS s t n).2.1 (s 0 110).toNat
    have hx : 0 ≤ fnx (s 8) (fitS s t n).2.1 (s 0 110).toNat := by
      cases Int.lt_or_le (fnx (s 8) (fitS s t n).2.1 (s 0 110).toNat) 0 with
      | inl h0 => have := cntN_all (b4 h0); omega
      | inr h0 => exact h0
    rw [fitS, if_neg (by rw [hok]; decide)] at h ⊢
    split at h
    · cases h
    · next hc =>
      rw [if_neg hc]
      refine ⟨?_, fun a ha => ?_⟩
      · dsimp only
        rw [cntN_add (b3 hx), ih, if_pos (by omega)]
      · simp only [Bool.or_eq_true, decide_eq_true_eq] at ha
        rcases ha with ha | ha
        · exact ih2 a ha
        · omega
theorem fitS_nx {s : MS} {t : Int} {n : Nat} (hn : (n : Int) < s 0 110) (h : (fitS s t n).2.2.2 = true) :
    0 ≤ fnx (s 8) (fitS s t n).2.1 (s 0 110).toNat ∧ fnx (s 8) (fitS s t n).2.1 (s 0 110).toNat < s 0 110 ∧ (fitS s t n).2.1 (fnx (s 8) (fitS s t n).2.1 (s 0 110).toNat).toNat = false := by
  obtain ⟨b1, b2, b3, b4⟩ := fnx_b (s 8) (fitS s t n).2.1 (s 0 110).toNat
  have hx : 0 ≤ fnx (s 8) (fitS s t n).2.1 (s 0 110).toNat := by
    cases Int.lt_or_le (fnx (s 8) (fitS s t n).2.1 (s 0 110).toNat) 0 with
    | inl h0 =>
      have := cntN_all (b4 h0)
      have := (fitS_cnt n (by omega) h).1
      omega
    | inr h0 => exact h0
  exact ⟨hx, by omega, b3 hx⟩
theorem c_fits {d : Nat} {Q : ZQ} {H : ZH} {m : Nat} {s : MS} {t : Int} (hM : MI H m) (hg : gok (s 1)) (hk : skok s) (ha : amok s) (ht : 0 ≤ t ∧ t ≤ 2147483647)
    (h1 : fitOK s t = true → ∀ f, (∀ a : Nat, (a : Int) < s 0 110 → f a = fitF s t a) → Q [zI 1] (mput H m (mset s 10 f))) (h0 : fitOK s t = false → ∀ f, Q [zI 0] (mput H m (mset s 10 f))) :
    zcall ztb (d + 4) mX6_fits [zR m, zI t] (mput H m s) Q := by
  obtain ⟨ha1, ha2, ha3⟩ := ha
  have main : ∀ i n : Nat, ∀ f, (n : Int) + i = s 0 110 → (fitS s t n).2.2.2 = true → (∀ a, (fitS s t n).2.1 a = true → f a = (fitS s t n).2.2.1 a) →
      zwp (zcall ztb (d + 3)) t_X6_fits Q 7 [some (zR m), some (zI t), some (zI (cset (fitS s t n).1)), some (zI (cset (fitS s t n).2.1)), some (zI n), none, none] [] (mput H m (mset s 10 f)) := by
    intro i
    induction i with
    | zero =>
      intro n f hn hok hf
      have hnn : n = (s 0 110).toNat := by omega
      apply bm_X6_fits_7 (d := d + 2) hM
      simp (disch := omega) only [msn, zw_id]
      refine ⟨fun _ => ?_, fun e => absurd e (by omega)⟩
      subst hnn
      exact h1 hok f fun a ha => hf a (cntN_full (fitS_cnt _ (by omega) hok).1 a (by omega))
    | succ i ih =>
      intro n f hn hok hf
      obtain ⟨x1, x2, x3⟩ := fitS_nx (by omega) hok
      have pick : ∀ r a : Nat, (a : Int) + r = s 0 110 →
          zwp (zcall ztb (d + 3)) t_X6_fits Q 22 [some (zR m), some (zI t), some (zI (cset (fitS s t n).1)), some (zI (cset (fitS s t n).2.1)), some (zI n), some (zI (fnx (s 8) (fitS s t n).2.1 a)), some (zI a)] [] (mput H m (mset s 10 f)) := by
        intro r
        induction r with
        | zero =>
          intro a hra
          have haa : a = (s 0 110).toNat := by omega
          subst haa
          obtain ⟨k, hk1⟩ := Int.eq_ofNat_of_zero_le x1
          have hkk := ha3 k (by omega)
          apply bm_X6_fits_22 (d := d + 2) hM
          simp (disch := omega) only [msn, zw_id]
          refine ⟨fun _ => ⟨by omega, ?_⟩, fun e => absurd e (by omega)⟩
          simp only [hk1, Int.toNat_natCast]
          simp (disch := omega) only [zw_id]
          refine c_busy hM (s := mset s 10 f) hg hk (by omega) (by omega) (by omega) ?_
          apply bm_X6_fits_93 (d := d + 2) hM
          simp (disch := omega) only [msn]
          have hset : zor (cset (bz (mset s 10 f) t (t + s 9 k) (s 0 109))) (cset (fitS s t n).1) = cset (fun c => bz s t (t + s 9 k) (s 0 109) c || (fitS s t n).1 c) := by
            rw [bz_10, cset_or]
          refine ⟨by omega, ?_⟩
          simp only [hk1, Int.toNat_natCast]
          rw [hset]
          refine c_X6_place (d := d + 2) (by omega) ?_
          have hstep := (rfl : fitS s t (n + 1) = fitS s t (n + 1))
          conv at hstep => rhs; rw [fitS]
          rw [if_neg (by rw [hok]; decide)] at hstep
          simp only [hk1, Int.toNat_natCast] at hstep
          have hr := plc_r (fun c => bz s t (t + s 9 k) (s 0 109) c || (fitS s t n).1 c) (s 8 k)
          apply bm_X6_fits_105 (d := d + 2) hM
          simp (disch := omega) only [zw_id, msn, Int.toNat_natCast]
          refine ⟨fun e => ⟨by omega, by omega, ?_⟩, fun e => ?_⟩
          · rw [if_neg (by omega)] at hstep
            have hih := ih (n + 1) (zupd f k (plc (fun c => bz s t (t + s 9 k) (s 0 109) c || (fitS s t n).1 c) (s 8 k))) (by omega) (by rw [hstep]) (fun a ha => by
              rw [hstep] at ha ⊢
              dsimp only at ha ⊢
              unfold zupd
              split
              · rfl
              · next q => exact hf a (by simpa [q] using ha))
            rw [hstep] at hih
            rw [mup_mset, mse, mset_mset]
            have e1 : zor (cset (fitS s t n).1) (zshl (zshl 1 (s 8 k) - 1) (plc (fun c => bz s t (t + s 9 k) (s 0 109) c || (fitS s t n).1 c) (s 8 k))) = cset (fun c => (fitS s t n).1 c || cov (plc (fun c => bz s t (t + s 9 k) (s 0 109) c || (fitS s t n).1 c) (s 8 k)) (s 8 k) c) := by
              rw [cset_cov (by omega) (by omega) (by omega), cset_or]
            have e2 : zor (cset (fitS s t n).2.1) (zshl 1 (k : Int)) = cset (fun a => (fitS s t n).2.1 a || decide (a = k)) := by
              rw [cov1 (by omega), cset_or]
            rw [e1, e2]
            exact hih
          · rw [if_pos (by omega)] at hstep
            refine h0 ?_ _
            have := fitS_stop (s := s) (t := t) (n := n + 1) (by rw [hstep]) i
            unfold fitOK
            rw [show (s 0 110).toNat = n + 1 + i by omega]; exact this
        | succ r ih2 =>
          intro a hra
          have ih2 := ih2 (a + 1) (by omega)
          obtain ⟨b1, b2, b3, b4⟩ := fnx_b (s 8) (fitS s t n).2.1 a
          apply bm_X6_fits_22 (d := d + 2) hM
          simp (disch := omega) only [msn, zw_id, csz, Int.toNat_natCast]
          rw [fnx] at ih2
          refine ⟨fun e => absurd e (by omega), fun _ => ⟨fun e => ?_, fun e => ⟨fun e2 => ?_, fun e2 => ?_⟩⟩⟩
          · rw [if_neg (fun q => e q.1)] at ih2; exact ih2
          · rw [if_pos ⟨Classical.not_not.mp e, Or.inl e2⟩] at ih2; exact ih2
          · have hw1 := ha3 a (by omega)
            have hw2 := ha3 (fnx (s 8) (fitS s t n).2.1 a).toNat (by omega)
            simp (disch := omega) only [zw_id]
            refine ⟨by omega, by omega, fun e3 => ?_, fun e3 => ?_⟩
            · rw [if_neg (by omega)] at ih2; exact ih2
            · rw [if_pos ⟨Classical.not_not.mp e, Or.inr (by omega)⟩] at ih2; exact ih2
      apply bm_X6_fits_7 (d := d + 2) hM
      simp (disch := omega) only [msn, zw_id]
      exact ⟨fun e => absurd e (by omega), fun _ => pick (s 0 110).toNat 0 (by omega)⟩
  apply bm_X6_fits (d := d + 2) hM
  have := main (s 0 110).toNat 0 (s 10) (by omega) rfl (fun a h => by cases h)
  rw [mset_self] at this
  have e0 : cset (fitS s t 0).1 = 0 := cset_none
  have e1 : cset (fitS s t 0).2.1 = 0 := cset_none
  rw [e0, e1] at this
  exact this
theorem c_foundBits {d : Nat} {Q : ZQ} {H : ZH} {m : Nat} {s : MS} (hM : MI H m) (ha : amok s) (hf : ∀ k : Nat, (k : Int) < s 0 110 → 0 ≤ s 10 k ∧ s 10 k + s 8 k ≤ 16)
    (h : Q [zI (cset (fbits s))] (mput H m s)) : zcall ztb (d + 2) mX6_foundBits [zR m] (mput H m s) Q := by
  obtain ⟨ha1, ha2, ha3⟩ := ha
  have main : ∀ i n : Nat, ∀ x, (n : Int) + i = s 0 110 → x = cset (fun c => anyN (fun a => cov (s 10 a) (s 8 a) c) n) →
      zwp (zcall ztb (d + 1)) t_X6_foundBits Q 4 [some (zR m), some (zI x), some (zI n)] [] (mput H m s) := by
    intro i
    induction i with
    | zero =>
      intro n x hn hx
      apply bm_X6_foundBits_4 hM
      simp (disch := omega) only [zw_id]
      refine ⟨fun _ => ?_, fun e => absurd e (by omega)⟩
      rw [hx, show n = (s 0 110).toNat by omega]; exact h
    | succ i ih =>
      intro n x hn hx
      have h3 := ha3 n (by omega)
      have h4 := hf n (by omega)
      apply bm_X6_foundBits_4 hM
      simp (disch := omega) only [zw_id, Int.toNat_natCast]
      refine ⟨fun e => absurd e (by omega), fun _ => ⟨by omega, by omega, ih (n + 1) _ (by omega) (cset_or2 hx (cset_cov (by omega) (by omega) (by omega)) fun c _ => rfl)⟩⟩
  exact bm_X6_foundBits hM (main (s 0 110).toNat 0 0 (by omega) cset_none.symm)
theorem c_takes {d : Nat} {Q : ZQ} {H : ZH} {m : Nat} {s : MS} {j : Nat} (hM : MI H m) (hg : gok (s 1)) (hj : (j : Int) < s 1 1)
    (h : Q [] (mput H m (tkS s j))) : zcall ztb (d + 2) mX6_takes [zR m, zI j] (mput H m s) Q := by
  have hh := hg.1
  unfold hok at hh
  obtain ⟨hj1, ha⟩ := hg.2.1 j hj
  unfold jok at hj1
  apply bm_X6_takes hM
  simp (disch := omega) only [jx, Int.reduceToNat, Nat.add_zero]
  refine ⟨by omega, by omega, ?_⟩
  have main : ∀ i n : Nat, (n : Int) + i = s 1 (96 + 32 * j + 4) →
      zwp (zcall ztb (d + 1)) t_X6_takes Q 22 [some (zR m), some (zI j), some (zI n)] [] (mput H m
        (mset (mset (mset s 0 (zupd (zupd (s 0) 109 (s 1 (96 + 32 * j))) 110 (s 1 (96 + 32 * j + 4)))) 8 (fun a => if a < n then s 1 (96 + 32 * j + (12 + a)) else s 8 a)) 9 (fun a => if a < n then s 1 (96 + 32 * j + (16 + a)) else s 9 a))) := by
    intro i
    induction i with
    | zero =>
      intro n hn
      apply bm_X6_takes_22 hM
      simp (disch := omega) only [msn, mse, ude, zw_id]
      refine ⟨fun _ => ?_, fun e => absurd e (by omega)⟩
      unfold tkS at h
      have hX : (n : Int) = s 1 (96 + 32 * j + 4) := by omega
      rw [ifr hX, ifr hX] at h
      exact h
    | succ i ih =>
      intro n hn
      apply bm_X6_takes_22 hM
      simp (disch := omega) only [msn, mse, ude, zw_id, jx, jxa, Int.reduceToNat, Int.toNat_natCast]
      refine ⟨fun e => absurd e (by omega), fun _ => ⟨by omega, by omega, by omega, by omega, ?_⟩⟩
      have ih := ih (n + 1) (by omega)
      have e : mset (mset (mset s 0 (zupd (zupd (s 0) 109 (s 1 (96 + 32 * j))) 110 (s 1 (96 + 32 * j + 4)))) 8 (fun a => if a < n + 1 then s 1 (96 + 32 * j + (12 + a)) else s 8 a)) 9 (fun a => if a < n + 1 then s 1 (96 + 32 * j + (16 + a)) else s 9 a) =
        mup (mup (mset (mset (mset s 0 (zupd (zupd (s 0) 109 (s 1 (96 + 32 * j))) 110 (s 1 (96 + 32 * j + 4)))) 8 (fun a => if a < n then s 1 (96 + 32 * j + (12 + a)) else s 8 a)) 9 (fun a => if a < n then s 1 (96 + 32 * j + (16 + a)) else s 9 a)) 8 n (s 1 (96 + 32 * j + (12 + n)))) 9 n (s 1 (96 + 32 * j + (16 + n))) := by
        funext k' i'
        unfold mup mset zupd
        by_cases h9 : k' = 9
        · subst h9
          simp
          by_cases hi : i' = n
          · subst hi; simp
          · rw [if_neg hi]
            by_cases hl : i' < n
            · rw [if_pos (by omega), if_pos hl]
            · rw [if_neg (by omega), if_neg hl]
        · by_cases h8 : k' = 8
          · subst h8
            simp
            by_cases hi : i' = n
            · subst hi; simp
            · rw [if_neg hi]
              by_cases hl : i' < n
              · rw [if_pos (by omega), if_pos hl]
              · rw [if_neg (by omega), if_neg hl]
          · simp [h8, h9]
      rw [← e]
      exact ih
  have m0 := main (s 1 (96 + 32 * j + 4)).toNat 0 (by omega)
  have e : mset (mset (mset s 0 (zupd (zupd (s 0) 109 (s 1 (96 + 32 * j))) 110 (s 1 (96 + 32 * j + 4)))) 8 (fun a => if a < 0 then s 1 (96 + 32 * j + (12 + a)) else s 8 a)) 9 (fun a => if a < 0 then s 1 (96 + 32 * j + (16 + a)) else s 9 a) =
      mup (mup s 0 109 (s 1 (96 + 32 * j))) 0 110 (s 1 (96 + 32 * j + 4)) := by
    funext k' i'
    unfold mup mset zupd
    by_cases h9 : k' = 9
    · subst h9; simp
    · by_cases h8 : k' = 8
      · subst h8; simp
      · by_cases h0 : k' = 0
        · subst h0; simp
        · simp [h0, h8, h9]
  rw [e] at m0
  exact m0
/-! THE MODEL: change, first -/
theorem c_change {d : Nat} {Q : ZQ} {H : ZH} {m : Nat} {s : MS} {t : Int} (hM : MI H m) (hg : gok (s 1)) (ha : amok s) (ht : 0 ≤ t ∧ t ≤ 1000000)
    (h : ∀ b, mnr t (chg s) b → Q [zI b] (mput H m s)) : zcall ztb (d + 3) mX6_change [zR m, zI t] (mput H m s) Q := by
  obtain ⟨ha1, ha2, ha3⟩ := ha
  have hh := hg.1
  unfold hok at hh
  have l139 : ∀ i x : Nat, ∀ b : Int, x + i = 12 → (-1 ≤ b ∧ b ≤ 1000000) → mnr t (fun v => (∃ j, j < (s 1 1).toNat ∧ cJ s j v) ∨ ∃ x', x' < x ∧ cS s x' v) b →
      zwp (zcall ztb (d + 2)) t_X6_change Q 139 [some (zR m), some (zI t), some (zI b), some (zI x), none, none] [] (mput H m s) := by
    intro i
    induction i with
    | zero =>
      intro x b hx hb hm
      have hx12 : x = 12 := by omega
      subst hx12
      apply bm_X6_change_139 hM
      exact ⟨fun _ => h b hm, fun e => absurd (by decide) e⟩
    | succ i ih =>
      intro x b hx hb hm
      have hs := hg.2.2 x (by omega)
      unfold sok at hs
      have l168 : ∀ i k : Nat, ∀ b : Int, (k : Int) + i = s 0 110 → 0 ≤ s 1 (24 + 6 * x) → (-1 ≤ b ∧ b ≤ 1000000) →
          mnr t (fun v => ((∃ j, j < (s 1 1).toNat ∧ cJ s j v) ∨ ∃ x', x' < x ∧ cS s x' v) ∨ (v = s 1 (24 + 6 * x + 4) ∨ ∃ k', k' < k ∧ v = s 1 (24 + 6 * x + 3) - s 9 k' + 1)) b →
          zwp (zcall ztb (d + 2)) t_X6_change Q 168 [some (zR m), some (zI t), some (zI b), some (zI x), some (zI k), none] [] (mput H m s) := by
        intro i
        induction i with
        | zero =>
          intro k b hk h0 hb hm
          apply bm_X6_change_168 hM
          simp (disch := omega) only [zw_id]
          refine ⟨fun _ => ih (x + 1) b (by omega) hb (mnr_c hm fun v => ?_), fun e => absurd e (by omega)⟩
          rw [exS, ← or_assoc]
          unfold cS
          rw [show (s 0 110).toNat = k by omega]
          simp only [h0, true_and]
        | succ i ih2 =>
          intro k b hk h0 hb hm
          have h3 := ha3 k (by omega)
          have h4 := hs.2 h0
          have fin : ∀ e, (-1 ≤ e ∧ e ≤ 1000000) → e = snr (s 1 (24 + 6 * x + 3) - s 9 k + 1) t b → zwp (zcall ztb (d + 2)) t_X6_change Q 168 [some (zR m), some (zI t), some (zI e), some (zI x), some (zI (k + 1 : Nat)), none] [] (mput H m s) := by
            intro e he1 he
            refine ih2 (k + 1) e (by omega) h0 he1 (mnr_s (by omega) hm (fun v => ?_) he)
            rw [exS]; simp only [or_assoc]
          apply bm_X6_change_168 hM
          simp (disch := omega) only [zw_id, sx, Int.reduceToNat, Nat.add_zero, Int.toNat_natCast]
          refine ⟨fun e => absurd e (by omega), fun _ => ⟨by omega, by omega, fun e => fin _ (by omega) (by unfold snr; split <;> omega), fun e => ⟨fun e => fin _ (by omega) (by unfold snr; split <;> omega), fun e => ⟨fun e => fin _ (by omega) (by unfold snr; split <;> omega), fun e => fin _ (by omega) (by unfold snr; split <;> omega)⟩⟩⟩⟩
      have fin : ∀ e, 0 ≤ s 1 (24 + 6 * x) → (-1 ≤ e ∧ e ≤ 1000000) → e = snr (s 1 (24 + 6 * x + 4)) t b → zwp (zcall ztb (d + 2)) t_X6_change Q 168 [some (zR m), some (zI t), some (zI e), some (zI x), some (zI (0 : Nat)), none] [] (mput H m s) := by
        intro e h0 he1 he
        refine l168 (s 0 110).toNat 0 e (by omega) h0 he1 (mnr_s (by omega) hm (fun v => ?_) he)
        simp
      apply bm_X6_change_139 hM
      simp (disch := omega) only [zw_id, sx, Int.reduceToNat, Nat.add_zero, Int.toNat_natCast]
      refine ⟨fun e => absurd e (by omega), fun _ => ⟨by omega, fun e => ?_, fun e => ?_⟩⟩
      · refine ih (x + 1) b (by omega) hb (mnr_c hm fun v => ?_)
        rw [exS, ← or_assoc]
        refine ⟨fun q => q.elim id fun q => absurd q.1 (by omega), Or.inl⟩
      · have h4 := hs.2 (by omega)
        simp (disch := omega) only [zw_id]
        refine ⟨by omega, fun e => fin _ (by omega) (by omega) (by unfold snr; split <;> omega), fun e => ⟨fun e => fin _ (by omega) (by omega) (by unfold snr; split <;> omega), fun e => ⟨fun e => fin _ (by omega) (by omega) (by unfold snr; split <;> omega), fun e => fin _ (by omega) (by omega) (by unfold snr; split <;> omega)⟩⟩⟩
  have l4 : ∀ i j : Nat, ∀ b : Int, (j : Int) + i = s 1 1 → (-1 ≤ b ∧ b ≤ 1000000) → mnr t (fun v => ∃ j', j' < j ∧ cJ s j' v) b →
      zwp (zcall ztb (d + 2)) t_X6_change Q 4 [some (zR m), some (zI t), some (zI b), some (zI j), none, none] [] (mput H m s) := by
    intro i
    induction i with
    | zero =>
      intro j b hj hb hm
      apply bm_X6_change_4 hM
      simp (disch := omega) only [zw_id]
      refine ⟨fun _ => l139 12 0 b rfl hb (mnr_c hm fun v => ?_), fun e => absurd e (by omega)⟩
      rw [show (s 1 1).toNat = j by omega]; simp
    | succ i ih =>
      intro j b hj hb hm
      obtain ⟨hj1, hA⟩ := hg.2.1 j (by omega)
      unfold jok at hj1
      have l93 : ∀ i k : Nat, ∀ b : Int, (k : Int) + i = s 0 110 → (-1 ≤ b ∧ b ≤ 1000000) →
          mnr t (fun v => (∃ j', j' < j ∧ cJ s j' v) ∨ ((∃ a, a < (s 1 (96 + 32 * j + 4)).toNat ∧ cA s j a v) ∨ ∃ k', k' < k ∧ cK s j k' v)) b →
          zwp (zcall ztb (d + 2)) t_X6_change Q 93 [some (zR m), some (zI t), some (zI b), some (zI j), some (zI (s 1 (96 + 32 * j + 9))), some (zI k)] [] (mput H m s) := by
        intro i
        induction i with
        | zero =>
          intro k b hk hb hm
          apply bm_X6_change_93 hM
          simp (disch := omega) only [zw_id]
          refine ⟨fun _ => ih (j + 1) b (by omega) hb (mnr_c hm fun v => ?_), fun e => absurd e (by omega)⟩
          rw [exS]
          unfold cJ
          rw [show (s 0 110).toNat = k by omega]
        | succ i ih2 =>
          intro k b hk hb hm
          have h3 := ha3 k (by omega)
          have fin : ∀ e, 0 ≤ s 1 (96 + 32 * j + 9) → (-1 ≤ e ∧ e ≤ 1000000) → e = snr (s 1 (96 + 32 * j + 9) - s 9 k + 1) t b → zwp (zcall ztb (d + 2)) t_X6_change Q 93 [some (zR m), some (zI t), some (zI e), some (zI j), some (zI (s 1 (96 + 32 * j + 9))), some (zI (k + 1 : Nat))] [] (mput H m s) := by
            intro e h0 he1 he
            refine ih2 (k + 1) e (by omega) he1 (mnr_s (by omega) hm (fun v => ?_) he)
            rw [exS]; unfold cK; simp only [or_assoc, h0, decide_true, true_and]
          apply bm_X6_change_93 hM
          simp (disch := omega) only [zw_id, Int.toNat_natCast]
          refine ⟨fun e => absurd e (by omega), fun _ => ⟨fun e => ?_, fun e => ⟨by omega, fun e => fin _ (by omega) (by omega) (by unfold snr; split <;> omega), fun e => ⟨fun e => fin _ (by omega) (by omega) (by unfold snr; split <;> omega), fun e => ⟨fun e => fin _ (by omega) (by omega) (by unfold snr; split <;> omega), fun e => fin _ (by omega) (by omega) (by unfold snr; split <;> omega)⟩⟩⟩⟩⟩
          refine ih (j + 1) b (by omega) hb (mnr_c hm fun v => ?_)
          rw [exS]
          have hn : ∀ k', ¬ cK s j k' v := fun k' q => by unfold cK at q; simp at q; omega
          unfold cJ
          simp only [hn, and_false, exists_false, or_false]
      have l26 : ∀ i a : Nat, ∀ b : Int, (a : Int) + i = s 1 (96 + 32 * j + 4) → (-1 ≤ b ∧ b ≤ 1000000) →
          mnr t (fun v => (∃ j', j' < j ∧ cJ s j' v) ∨ ∃ a', a' < a ∧ cA s j a' v) b →
          zwp (zcall ztb (d + 2)) t_X6_change Q 26 [some (zR m), some (zI t), some (zI b), some (zI j), some (zI (s 1 (96 + 32 * j + 9))), some (zI a)] [] (mput H m s) := by
        intro i
        induction i with
        | zero =>
          intro a b hk hb hm
          apply bm_X6_change_26 hM
          simp (disch := omega) only [zw_id, jx, Int.reduceToNat]
          refine ⟨by omega, fun _ => l93 (s 0 110).toNat 0 b (by omega) hb (mnr_c hm fun v => ?_), fun e => absurd e (by omega)⟩
          rw [show (s 1 (96 + 32 * j + 4)).toNat = a by omega]; simp
        | succ i ih2 =>
          intro a b hk hb hm
          have hA := hA a (by omega)
          unfold aok at hA
          have fin : ∀ e, (-1 ≤ e ∧ e ≤ 1000000) → (e = if decide (0 ≤ s 1 (96 + 32 * j + 9)) = true then snr (s 1 (96 + 32 * j + 9) + s 1 (96 + 32 * j + (16 + a))) t (if hld (s 1) j a = true then snr (s 1 (96 + 32 * j + 6) + s 1 (96 + 32 * j + (16 + a))) t b else b) else if hld (s 1) j a = true then snr (s 1 (96 + 32 * j + 6) + s 1 (96 + 32 * j + (16 + a))) t b else b) →
              zwp (zcall ztb (d + 2)) t_X6_change Q 26 [some (zR m), some (zI t), some (zI e), some (zI j), some (zI (s 1 (96 + 32 * j + 9))), some (zI (a + 1 : Nat))] [] (mput H m s) := by
            intro e he1 he
            refine ih2 (a + 1) e (by omega) he1 (mnr_2 (by omega) hm (fun v => ?_) he)
            rw [exS]; unfold cA; simp only [or_assoc]
          apply bm_X6_change_26 hM
          simp (disch := omega) only [zw_id, jx, jxa, Int.reduceToNat]
          refine ⟨by omega, fun e => absurd e (by omega), fun _ => ⟨by omega, ?_⟩⟩
          repeat' (first | with_reducible apply And.intro | with_reducible intro _)
          all_goals first | omega | (refine fin _ (by omega) ?_; unfold hld snr; simp only [Bool.and_eq_true, decide_eq_true_eq]; repeat' split; all_goals omega)
      apply bm_X6_change_4 hM
      simp (disch := omega) only [zw_id, jx, Int.reduceToNat]
      refine ⟨fun e => absurd e (by omega), fun _ => ⟨by omega, l26 (s 1 (96 + 32 * j + 4)).toNat 0 b (by omega) hb (mnr_c hm fun v => ?_)⟩⟩
      simp
  exact bm_X6_change hM (l4 (s 1 1).toNat 0 (-1) (by omega) (by omega) (mnr_0 (by simp)))
/-! THE MODEL: first -/
theorem c_first {d : Nat} {Q : ZQ} {H : ZH} {m : Nat} {s : MS} {t : Int} (hM : MI H m) (hg : gok (s 1)) (hk : skok s) (ha : amok s) (ht : 0 ≤ t ∧ t ≤ 200000)
    (h1 : ∀ r, t ≤ r → r ≤ s 1 0 + 20000 → fitOK s r = true → fsR s 300000 t r → ∀ f, (∀ a : Nat, (a : Int) < s 0 110 → f a = fitF s r a) → Q [zI r] (mput H m (mset s 10 f))) (h0 : fsR s 300000 t (-1) → ∀ f, Q [zI (-1)] (mput H m (mset s 10 f))) :
    zcall ztb (d + 5) mX6_first [zR m, zI t] (mput H m s) Q := by
  have hh := hg.1
  unfold hok at hh
  have main : ∀ n : Nat, ∀ f, ∀ t' : Int, t ≤ t' ∨ t' = -1 → t' ≤ 2000000 → (t' = -1 ∨ s 1 0 + 20001 - t' ≤ n) →
      (∀ r, t ≤ r → r ≤ s 1 0 + 20000 → fitOK s r = true → fsR s n t' r → ∀ f, (∀ a : Nat, (a : Int) < s 0 110 → f a = fitF s r a) → Q [zI r] (mput H m (mset s 10 f))) → (fsR s n t' (-1) → ∀ f, Q [zI (-1)] (mput H m (mset s 10 f))) →
      zwp (zcall ztb (d + 4)) t_X6_first Q 2 [some (zR m), none, some (zI t')] [] (mput H m (mset s 10 f)) := by
    intro n
    induction n with
    | zero =>
      intro f t' h2 h2' h3 h4 h5
      apply bm_X6_first_2 hM
      simp (disch := omega) only [zw_id, msn]
      exact ⟨fun e => h5 ⟨Or.inl e, rfl⟩ f, fun e => ⟨fun e => h5 ⟨Or.inr e, rfl⟩ f, fun e => by omega⟩⟩
    | succ n ih =>
      intro f t' h2 h2' h3 h4 h5
      apply bm_X6_first_2 hM
      simp (disch := omega) only [zw_id, msn]
      refine ⟨fun e => h5 (by rw [fsR, if_pos (Or.inl e)]) f, fun e => ⟨fun e => h5 (by rw [fsR, if_pos (Or.inr e)]) f, fun e2 => ?_⟩⟩
      have hno : ¬ (t' < 0 ∨ s 1 0 + 20000 < t') := by omega
      simp only [fsR, if_neg hno] at h4 h5
      refine c_fits (s := mset s 10 f) hM hg hk ha (by omega) (fun hf f' hf' => ?_) (fun hf f' => ?_)
      · rw [fitOK_10] at hf
        rw [fitF_10] at hf'
        rw [mset_mset]
        apply bm_X6_first_25 hM
        simp (disch := omega) only [zw_id]
        refine ⟨fun e => absurd e (by decide), fun _ => ?_⟩
        exact h4 t' (by omega) (by omega) hf (by rw [if_pos hf]) f' hf'
      · rw [fitOK_10] at hf
        rw [mset_mset]
        have hff : ¬ fitOK s t' = true := by rw [hf]; decide
        simp only [if_neg hff] at h4 h5
        apply bm_X6_first_25 hM
        simp (disch := omega) only [zw_id]
        refine ⟨fun _ => ?_, fun e => absurd (by decide) e⟩
        refine c_change (d := d + 1) (s := mset s 10 f') hM hg ha (by omega) fun b hb => ?_
        apply bm_X6_first_35 hM
        have hb' : mnr t' (chg s) b := hb
        have hbig : b ≤ 2000000 := by
          rcases hb' with ⟨e, _⟩ | ⟨_, hc, _⟩
          · omega
          · rcases hc with ⟨j, hj, hc⟩ | ⟨x, hx, hc, hc2⟩
            · obtain ⟨hj1, hA⟩ := hg.2.1 j (by omega)
              unfold jok at hj1
              rcases hc with ⟨a, ha1, hc⟩ | ⟨k, hk1, hc⟩
              · have hA := hA a (by omega)
                unfold aok at hA
                unfold cA at hc
                rcases hc with hc | hc <;> omega
              · have := ha.2.2 k (by have := ha.2.1; omega)
                unfold cK at hc
                omega
            · have hs := hg.2.2 x hx
              unfold sok at hs
              have hs := hs.2 hc
              rcases hc2 with hc2 | ⟨k, hk1, hc2⟩
              · omega
              · have := ha.2.2 k (by have := ha.2.1; omega)
                omega
        refine ih f' b ?_ hbig ?_ (fun r r1 r2 r3 r4 => h4 r r1 r2 r3 ⟨b, hb', r4⟩) (fun r => h5 ⟨b, hb', r⟩)
        · rcases hb' with ⟨e, _⟩ | ⟨e, _⟩ <;> omega
        · rcases hb' with ⟨e, _⟩ | ⟨e, _⟩
          · omega
          · omega
  have := main 300000 (s 10) t (Or.inl (by omega)) (by omega) (Or.inr (by omega)) h1 h0
  rw [mset_self] at this
  exact bm_X6_first hM this
