/-! THE MODEL: in thought -/
def cpy (f g : Nat → Int) (n : Nat) : Nat → Int := fun i => if i < n then f i else g i
theorem cpy_s (f g : Nat → Int) (n : Nat) : cpy f g (n + 1) = zupd (cpy f g n) n (f n) := by
  funext i
  unfold cpy zupd
  by_cases e : i = n
  · subst e; rw [if_pos (by omega), if_pos rfl]
  · rw [if_neg e]
    dsimp only
    by_cases h : i < n
    · rw [if_pos h, if_pos (by omega)]
    · rw [if_neg h, if_neg (by omega)]
theorem cpy_t {f g : Nat → Int} {n : Nat} (h : ∀ i, n ≤ i → f i = g i) : cpy f g n = f := by
  funext i
  unfold cpy
  by_cases e : i < n
  · rw [if_pos e]
  · rw [if_neg e, h i (by omega)]
theorem cpy_0 (f g : Nat → Int) : cpy f g 0 = g := by funext i; unfold cpy; rw [if_neg (by omega)]
theorem c_lays {d : Nat} {Q : ZQ} {H : ZH} {m : Nat} {s : MS} {k l : Nat} (hM : MI H m) (hk : 1 ≤ k ∧ k ≤ 3) (hl : 1 ≤ l ∧ l ≤ 3) (hkl : k ≠ l) (h : Q [] (mput H m (mset s l (cpy (s k) (s l) 3940)))) :
    zcall ztb (d + 1) mX6_lays [zR (m + k), zR (m + l)] (mput H m s) Q := by
  have T : ∀ q, 1 ≤ q → q ≤ 3 → hT H (m + q) = 101 ∧ hL H (m + q) = 3940 := fun q h1 h2 => by
    rcases (by omega : q = 1 ∨ q = 2 ∨ q = 3) with e | e | e <;> subst e
    · exact ⟨mT_1 hM, mL_1 hM⟩
    · exact ⟨mT_2 hM, mL_2 hM⟩
    · exact ⟨mT_3 hM, mL_3 hM⟩
  have main : ∀ i n : Nat, n + i = 3940 → zwp (zcall ztb d) t_X6_lays Q 2 [some (zR (m + k)), some (zR (m + l)), some (zI n)] [] (mput H m (mset s l (cpy (s k) (s l) n))) := by
    intro i
    induction i with
    | zero =>
      intro n hn
      have hn : n = 3940 := by omega
      subst hn
      apply b_X6_lays_2
      exact ⟨fun _ => h, fun e => absurd (by decide) e⟩
    | succ i ih =>
      intro n hn
      have ih := ih (n + 1) (by omega)
      rw [cpy_s] at ih
      apply b_X6_lays_2
      simp (disch := omega) only [zw_id, hT_mput, hL_mput, (T k hk.1 hk.2).1, (T k hk.1 hk.2).2, (T l hl.1 hl.2).1, (T l hl.1 hl.2).2, Int.toNat_natCast, hA_mput k (by omega) (by omega), uA_mput l (by omega) (by omega), mup_mset, mse, mset_mset, msn]
      exact ⟨fun e => absurd e (by omega), fun _ => ⟨by simp, by omega, by simp, by omega, ih⟩⟩
  have m0 := main 3940 0 rfl
  rw [cpy_0, mset_self] at m0
  exact b_X6_lays m0
theorem c_laysSums {d : Nat} {Q : ZQ} {H : ZH} {m : Nat} {s : MS} {k l : Nat} (hM : MI H m) (hk : 4 ≤ k ∧ k ≤ 6) (hl : 4 ≤ l ∧ l ≤ 6) (hkl : k ≠ l) (h : Q [] (mput H m (mset s l (cpy (s k) (s l) 16)))) :
    zcall ztb (d + 1) mX6_laysSums [zR (m + k), zR (m + l)] (mput H m s) Q := by
  have T : ∀ q, 4 ≤ q → q ≤ 6 → hT H (m + q) = 104 ∧ hL H (m + q) = 16 := fun q h1 h2 => by
    rcases (by omega : q = 4 ∨ q = 5 ∨ q = 6) with e | e | e <;> subst e
    · exact ⟨mT_4 hM, mL_4 hM⟩
    · exact ⟨mT_5 hM, mL_5 hM⟩
    · exact ⟨mT_6 hM, mL_6 hM⟩
  have main : ∀ i n : Nat, n + i = 16 → zwp (zcall ztb d) t_X6_laysSums Q 2 [some (zR (m + k)), some (zR (m + l)), some (zI n)] [] (mput H m (mset s l (cpy (s k) (s l) n))) := by
    intro i
    induction i with
    | zero =>
      intro n hn
      have hn : n = 16 := by omega
      subst hn
      apply b_X6_laysSums_2
      exact ⟨fun _ => h, fun e => absurd (by decide) e⟩
    | succ i ih =>
      intro n hn
      have ih := ih (n + 1) (by omega)
      rw [cpy_s] at ih
      apply b_X6_laysSums_2
      simp (disch := omega) only [zw_id, hT_mput, hL_mput, (T k hk.1 hk.2).1, (T k hk.1 hk.2).2, (T l hl.1 hl.2).1, (T l hl.1 hl.2).2, Int.toNat_natCast, hA_mput k (by omega) (by omega), uA_mput l (by omega) (by omega), mup_mset, mse, mset_mset, msn]
      exact ⟨fun e => absurd e (by omega), fun _ => ⟨by simp, by omega, by simp, by omega, ih⟩⟩
  have m0 := main 16 0 rfl
  rw [cpy_0, mset_self] at m0
  exact b_X6_laysSums m0
/-- a job is thought to last as it asks -/
def thA (B : Nat → Int) (j n : Nat) : Nat → Int := fun i =>
  if i = 96 + 32 * j + 2 then 100 else if 96 + 32 * j + 24 ≤ i ∧ i < 96 + 32 * j + 24 + n ∧ hld B j (i - (96 + 32 * j + 24)) = true then B (96 + 32 * j + 6) + B (96 + 32 * j + (16 + (i - (96 + 32 * j + 24)))) else B i
theorem thA_0 (B : Nat → Int) (j : Nat) : thA B j 0 = zupd B (96 + 32 * j + 2) 100 := by
  funext i
  unfold thA zupd
  by_cases e : i = 96 + 32 * j + 2
  · rw [if_pos e, if_pos e]
  · rw [if_neg e, if_neg e, if_neg (by omega)]
theorem thA_s (B : Nat → Int) (j n : Nat) : thA B j (n + 1) = if hld B j n = true then zupd (thA B j n) (96 + 32 * j + (24 + n)) (B (96 + 32 * j + 6) + B (96 + 32 * j + (16 + n))) else thA B j n := by
  funext i
  by_cases c : hld B j n = true
  · rw [if_pos c]
    unfold thA zupd
    by_cases e : i = 96 + 32 * j + (24 + n)
    · subst e
      rw [if_pos rfl, if_neg (by omega), show 96 + 32 * j + (24 + n) - (96 + 32 * j + 24) = n by omega, if_pos ⟨by omega, by omega, c⟩]
    · rw [if_neg e]
      dsimp only
      by_cases h2 : i = 96 + 32 * j + 2
      · rw [if_pos h2, if_pos h2]
      · rw [if_neg h2, if_neg h2]
        by_cases h : 96 + 32 * j + 24 ≤ i ∧ i < 96 + 32 * j + 24 + n ∧ hld B j (i - (96 + 32 * j + 24)) = true
        · rw [if_pos h, if_pos ⟨h.1, by omega, h.2.2⟩]
        · rw [if_neg h, if_neg (fun q => h ⟨q.1, by omega, q.2.2⟩)]
  · rw [if_neg c]
    unfold thA
    by_cases h2 : i = 96 + 32 * j + 2
    · rw [if_pos h2, if_pos h2]
    · rw [if_neg h2, if_neg h2]
      by_cases h : 96 + 32 * j + 24 ≤ i ∧ i < 96 + 32 * j + 24 + n ∧ hld B j (i - (96 + 32 * j + 24)) = true
      · rw [if_pos h, if_pos ⟨h.1, by omega, h.2.2⟩]
      · rw [if_neg h, if_neg (fun q => by
          by_cases e : i - (96 + 32 * j + 24) = n
          · rw [e] at q; exact c q.2.2
          · exact h ⟨q.1, by omega, q.2.2⟩)]
theorem thA_o {B : Nat → Int} {j n i : Nat} (hn : n ≤ 4) (h : i < 96 + 32 * j + 2 ∨ 96 + 32 * j + 3 ≤ i ∧ i < 96 + 32 * j + 24 ∨ 96 + 32 * j + 28 ≤ i) : thA B j n i = B i := by
  unfold thA; rw [if_neg (by omega), if_neg (by omega)]
theorem thA_e {B : Nat → Int} {j n a : Nat} (ha : n ≤ a) (h4 : a < 4) : thA B j n (96 + 32 * j + (24 + a)) = B (96 + 32 * j + (24 + a)) := by
  unfold thA; rw [if_neg (by omega), if_neg (by omega)]
theorem thA_i {B : Nat → Int} {j n a : Nat} (ha : a < n) : thA B j n (96 + 32 * j + (24 + a)) = if hld B j a = true then B (96 + 32 * j + 6) + B (96 + 32 * j + (16 + a)) else B (96 + 32 * j + (24 + a)) := by
  unfold thA
  rw [if_neg (by omega), show 96 + 32 * j + (24 + a) - (96 + 32 * j + 24) = a by omega]
  by_cases c : hld B j a = true
  · rw [if_pos c, if_pos ⟨by omega, by omega, c⟩]
  · rw [if_neg c, if_neg (fun q => c q.2.2)]
def thN (G : Nat → Int) : Nat → (Nat → Int)
  | 0 => G
  | j + 1 => thA (thN G j) j (armd (thN G j) j)
def thF (G : Nat → Int) : Nat → Int := thN G (G 1).toNat
theorem thA_gok {B : Nat → Int} {j : Nat} (hg : gok B) (hj : (j : Int) < B 1) : gok (thA B j (armd B j)) := by
  have hh := hg.1
  unfold hok at hh
  obtain ⟨b1, b2⟩ := hg.2.1 j hj
  unfold jok at b1
  have hn : armd B j ≤ 4 := by unfold armd; omega
  refine gok_job hg j (fun i h1 h2 h3 => thA_o hn (by omega)) (by rw [thA_o hn (by omega)]; omega) (by rw [thA_o hn (by omega)]; omega) (fun k w hk hkj hw => thA_o hn (by omega)) (fun _ => ⟨?_, fun a ha => ?_⟩)
  · have e2 : thA B j (armd B j) (96 + 32 * j + 2) = 100 := if_pos rfl
    unfold jok
    rw [thA_o hn (by omega), thA_o hn (by omega), e2, thA_o hn (by omega), thA_o hn (by omega), thA_o hn (by omega), thA_o hn (by omega), thA_o hn (by omega), thA_o hn (by omega), thA_o hn (by omega), thA_o hn (by omega), thA_o hn (by omega)]
    omega
  · rw [thA_o hn (by omega)] at ha
    have b2 := b2 a ha
    have han : a < armd B j := by unfold armd; omega
    unfold aok at b2 ⊢
    rw [thA_o hn (by omega), thA_o hn (by omega), thA_o hn (by omega), thA_i han, thA_o hn (by omega), thA_o hn (by omega), thA_o hn (by omega)]
    split <;> omega
theorem thN_I {G : Nat → Int} (hg : gok G) : ∀ n : Nat, (n : Int) ≤ G 1 → gok (thN G n) ∧ (∀ i, i < 96 ∨ 2656 ≤ i → thN G n i = G i) ∧ ∀ k w : Nat, (w < 2 ∨ 3 ≤ w ∧ w < 24 ∨ 28 ≤ w ∧ w < 32 ∨ n ≤ k) → w < 32 → thN G n (96 + 32 * k + w) = G (96 + 32 * k + w)
  | 0, _ => ⟨hg, fun _ _ => rfl, fun _ _ _ _ => rfl⟩
  | n + 1, hn => by
    obtain ⟨i1, i2, i3⟩ := thN_I hg n (by omega)
    have hh := hg.1
    unfold hok at hh
    have hj : (n : Int) < thN G n 1 := by rw [i2 1 (by omega)]; omega
    obtain ⟨b1, b2⟩ := i1.2.1 n hj
    unfold jok at b1
    have h4 : armd (thN G n) n ≤ 4 := by unfold armd; omega
    refine ⟨thA_gok i1 hj, fun i hi => ?_, fun k w h1 h2 => ?_⟩
    · rw [thN, thA_o h4 (by omega)]; exact i2 i hi
    · by_cases e : k = n
      · subst e; rw [thN, thA_o h4 (by omega)]; exact i3 k w (by omega) h2
      · rw [thN, thA_o h4 (by omega)]; exact i3 k w (by omega) h2
theorem thF_I {G : Nat → Int} (hg : gok G) : gok (thF G) ∧ (∀ i, i < 96 ∨ 2656 ≤ i → thF G i = G i) ∧ ∀ k w : Nat, (w < 2 ∨ 3 ≤ w ∧ w < 24 ∨ 28 ≤ w) → w < 32 → thF G (96 + 32 * k + w) = G (96 + 32 * k + w) := by
  have hh := hg.1
  unfold hok at hh
  obtain ⟨h1, h2, h3⟩ := thN_I hg (G 1).toNat (by omega)
  exact ⟨h1, h2, fun k w a b => h3 k w (by omega) b⟩
theorem thF_inv {G U : Nat → Int} (h : tinv G U) : tinv (thF G) U := by
  obtain ⟨hg, hs, hU, hC, hT⟩ := h
  obtain ⟨h1, h2, h3⟩ := thF_I hg
  have hh := hg.1
  unfold hok at hh
  refine ⟨h1, stk_c hs (h2 1 (by omega)) (h2 6 (by omega)) (fun j hj => ⟨h3 j 5 (by omega) (by omega), h3 j 6 (by omega) (by omega)⟩) (fun k hk => h2 _ (by omega)), fun a ha => ?_, fun i hi => ?_, hT⟩
  · rw [h2 0 (by omega)]; exact hU a ha
  · rw [h2 i (by omega)]; exact hC i hi
theorem c_thinks {d : Nat} {Q : ZQ} {H : ZH} {m : Nat} {s : MS} (hM : MI H m) (hg : gok (s 1)) (h2 : ∀ i, 3940 ≤ i → s 1 i = s 2 i) (h5 : ∀ i, 16 ≤ i → s 4 i = s 5 i)
    (h : Q [] (mput H m (mset (mset (mset s 2 (s 1)) 5 (s 4)) 1 (thF (s 1))))) : zcall ztb (d + 3) mX6_thinks [zR m] (mput H m s) Q := by
  have hh := hg.1
  unfold hok at hh
  apply bm_X6_thinks hM
  refine c_lays (d := d + 1) (k := 1) (l := 2) hM (by omega) (by omega) (by omega) ?_
  rw [cpy_t h2]
  apply bm_X6_thinks_11 hM
  refine c_laysSums (d := d + 1) (k := 4) (l := 5) (s := mset s 2 (s 1)) hM (by omega) (by omega) (by omega) ?_
  rw [show mset s 2 (s 1) 4 = s 4 from rfl, show mset s 2 (s 1) 5 = s 5 from rfl, cpy_t h5]
  apply bm_X6_thinks_22 hM
  have l24 : ∀ r j : Nat, (j : Int) + r = s 1 1 → zwp (zcall ztb (d + 2)) t_X6_thinks Q 24 [some (zR m), some (zI j), none] [] (mput H m (mset (mset (mset s 2 (s 1)) 5 (s 4)) 1 (thN (s 1) j))) := by
    intro r
    induction r with
    | zero =>
      intro j hj
      obtain ⟨i1, i2, i3⟩ := thN_I hg j (by omega)
      have m1 : thN (s 1) j 1 = j := by rw [i2 1 (by omega)]; omega
      apply bm_X6_thinks_24 hM
      simp (disch := omega) only [zw_id, mse, m1]
      refine ⟨fun _ => ?_, fun e => absurd e (by omega)⟩
      unfold thF at h
      rw [show (s 1 1).toNat = j by omega] at h
      exact h
    | succ r ih =>
      intro j hj
      obtain ⟨i1, i2, i3⟩ := thN_I hg j (by omega)
      have m1 : thN (s 1) j 1 = s 1 1 := i2 1 (by omega)
      have ih := ih (j + 1) (by omega)
      rw [thN] at ih
      obtain ⟨b1, b2⟩ := i1.2.1 j (by omega)
      unfold jok at b1
      have i1h := i1.1
      unfold hok at i1h
      have h4 : armd (thN (s 1) j) j ≤ 4 := by unfold armd; omega
      have l44 : ∀ q n : Nat, n + q = armd (thN (s 1) j) j → zwp (zcall ztb (d + 2)) t_X6_thinks Q 44 [some (zR m), some (zI j), some (zI n)] [] (mput H m (mset (mset (mset s 2 (s 1)) 5 (s 4)) 1 (thA (thN (s 1) j) j n))) := by
        intro q
        induction q with
        | zero =>
          intro n hn
          have hn : n = armd (thN (s 1) j) j := by omega
          have e4 : thA (thN (s 1) j) j n (96 + 32 * j + 4) = n := by rw [thA_o (by omega) (by omega), hn]; unfold armd; omega
          apply bm_X6_thinks_44 hM
          simp (disch := omega) only [zw_id, mse, jx, Int.reduceToNat, e4]
          refine ⟨by omega, fun _ => ?_, fun e => absurd e (by omega)⟩
          rw [hn]; exact ih
        | succ q ih2 =>
          intro n hn
          have ih2 := ih2 (n + 1) (by omega)
          rw [thA_s] at ih2
          have e4 : thA (thN (s 1) j) j n (96 + 32 * j + 4) = armd (thN (s 1) j) j := by rw [thA_o (by omega) (by omega)]; unfold armd; omega
          have e5 : thA (thN (s 1) j) j n (96 + 32 * j + 5) = thN (s 1) j (96 + 32 * j + 5) := thA_o (by omega) (by omega)
          have e6 : thA (thN (s 1) j) j n (96 + 32 * j + 6) = thN (s 1) j (96 + 32 * j + 6) := thA_o (by omega) (by omega)
          have e16 : thA (thN (s 1) j) j n (96 + 32 * j + (16 + n)) = thN (s 1) j (96 + 32 * j + (16 + n)) := thA_o (by omega) (by omega)
          have e24 : thA (thN (s 1) j) j n (96 + 32 * j + (24 + n)) = thN (s 1) j (96 + 32 * j + (24 + n)) := thA_e (by omega) (by omega)
          have e0 : thA (thN (s 1) j) j n 0 = thN (s 1) j 0 := thA_o (by omega) (by omega)
          have b2 := b2 n (by unfold armd at hn; omega)
          unfold aok at b2
          apply bm_X6_thinks_44 hM
          simp (disch := omega) only [zw_id, mse, jx, jxa, Int.reduceToNat, e4, e5, e6, e16, e24, e0, mup_mset, mset_mset]
          refine ⟨by omega, fun e => absurd e (by omega), fun _ => ⟨by omega, fun e => ?_, fun e => ⟨by omega, fun e2 => ?_, fun e2 => ⟨by omega, by omega, ?_⟩⟩⟩⟩
          · rw [if_neg (by unfold hld; simp [e])] at ih2; exact ih2
          · rw [if_neg (by unfold hld; simp; omega)] at ih2; exact ih2
          · rw [if_pos (by unfold hld; simp; omega)] at ih2; exact ih2
      have l0 := l44 (armd (thN (s 1) j) j) 0 (by omega)
      rw [thA_0] at l0
      apply bm_X6_thinks_24 hM
      simp (disch := omega) only [zw_id, mse, m1, jx, Int.reduceToNat, mup_mset, mset_mset]
      exact ⟨fun e => absurd e (by omega), fun _ => ⟨by omega, l0⟩⟩
  exact (show mset (mset (mset s 2 (s 1)) 5 (s 4)) 1 (thN (s 1) 0) = mset (mset s 2 (s 1)) 5 (s 4) from mset_self (mset (mset s 2 (s 1)) 5 (s 4)) 1) ▸ l24 (s 1 1).toNat 0 (by omega)
theorem c_forgets {d : Nat} {Q : ZQ} {H : ZH} {m : Nat} {s : MS} (hM : MI H m) (h2 : ∀ i, 3940 ≤ i → s 2 i = s 1 i) (h5 : ∀ i, 16 ≤ i → s 5 i = s 4 i)
    (h : Q [] (mput H m (mset (mset s 1 (s 2)) 4 (s 5)))) : zcall ztb (d + 2) mX6_forgets [zR m] (mput H m s) Q := by
  apply bm_X6_forgets (d := d + 1) hM
  refine c_lays (d := d) (k := 2) (l := 1) hM (by omega) (by omega) (by omega) ?_
  rw [cpy_t h2]
  apply bm_X6_forgets_11 (d := d + 1) hM
  refine c_laysSums (d := d) (k := 5) (l := 4) (s := mset s 1 (s 2)) hM (by omega) (by omega) (by omega) ?_
  rw [show mset s 1 (s 2) 4 = s 4 from rfl, show mset s 1 (s 2) 5 = s 5 from rfl, cpy_t h5]
  exact bm_X6_forgets_22 (d := d + 1) hM h
noncomputable def gsF (G U : Nat → Int) : Nat → (Nat → Int) × (Nat → Int)
  | 0 => (G, U)
  | n + 1 => tickF (gsF G U n).1 (gsF G U n).2
theorem gsF_I {G U : Nat → Int} (h : tinv G U) : ∀ n : Nat, G 0 + n ≤ 150000 → tinv (gsF G U n).1 (gsF G U n).2 ∧ (∀ i, i < 6 → i ≠ 0 → (gsF G U n).1 i = G i) ∧ (gsF G U n).1 0 = G 0 + n
  | 0, _ => ⟨h, fun _ _ _ => rfl, by simp [gsF]⟩
  | n + 1, hn => by
    obtain ⟨h1, h2, h3⟩ := gsF_I h n (by omega)
    obtain ⟨k1, k2, k3, _⟩ := tickF_inv h1 (by omega)
    rw [gsF]
    exact ⟨k1, fun i a b => by rw [k2 i a b, h2 i a b], by rw [k3, h3]; omega⟩
theorem fr_trans {s s' s'' : MS} (h : fr s s') (h2 : fr s' s'') : fr s s'' := ⟨fun k hk => by rw [h2.1 k hk, h.1 k hk], fun i a b => by rw [h2.2 i a b, h.2 i a b]⟩
noncomputable def n300 : Nat := Classical.choose (⟨300, rfl⟩ : ∃ n : Nat, n = 300)
theorem n300_eq : n300 = 300 := Classical.choose_spec (⟨300, rfl⟩ : ∃ n : Nat, n = 300)
theorem c_goes {d : Nat} {Q : ZQ} {H : ZH} {m : Nat} {s : MS} (hM : MI H m) (hr : rest s) (ht : tinv (s 1) (s 4)) (h0 : s 1 0 + 300 ≤ 150000)
    (h : ∀ s', fr s s' → s' 1 = (gsF (s 1) (s 4) n300).1 → s' 4 = (gsF (s 1) (s 4) n300).2 → Q [] (mput H m s')) : zcall ztb (d + 9) mX6_goes [zR m] (mput H m s) Q := by
  have main : ∀ r n : Nat, n + r = n300 → ∀ s', fr s s' → s' 1 = (gsF (s 1) (s 4) n).1 → s' 4 = (gsF (s 1) (s 4) n).2 → zwp (zcall ztb (d + 8)) t_X6_goes Q 2 [some (zR m), some (zI n)] [] (mput H m s') := by
    intro r
    induction r with
    | zero =>
      intro n hn s' f1 f2 f3
      have hn : n = n300 := by omega
      subst hn
      have := n300_eq
      apply bm_X6_goes_2 (d := d + 8) hM
      simp (disch := omega) only [zw_id]
      exact ⟨fun _ => h s' f1 f2 f3, fun e => absurd (by omega) e⟩
    | succ r ih =>
      intro n hn s' f1 f2 f3
      have := n300_eq
      have ih := ih (n + 1) (by omega)
      rw [gsF] at ih
      obtain ⟨g1, g2, g3⟩ := gsF_I ht n (by omega)
      rw [← f2, ← f3] at ih g1
      rw [← f2] at g3
      apply bm_X6_goes_2 (d := d + 8) hM
      simp (disch := omega) only [zw_id]
      refine ⟨fun e => absurd e (by omega), fun _ => ?_⟩
      refine c_ticks (d := d) hM (fr_rest f1 hr) g1 (by omega) (fun s'' k1 k2 k3 => ?_)
      apply bm_X6_goes_13 (d := d + 8) hM
      exact ih s'' (fr_trans f1 k1) k2 k3
  exact bm_X6_goes (d := d + 8) hM (main n300 0 (Nat.zero_add _) s (fr_refl s) rfl rfl)
/-! THE MODEL: overlaps, keeps, ranked -/
def ovS (G : Nat → Int) (p : Nat → Bool) (fr to : Int) (x : Nat) : Bool := decide (0 ≤ G (24 + 6 * x)) && anyN (fun c => spanc G x c && p c) 16 && decide (fr < G (24 + 6 * x + 4)) && decide (G (24 + 6 * x + 3) < to)
def ovA (G : Nat → Int) (p : Nat → Bool) (fr : Int) (j a : Nat) : Bool := hld G j a && anyN (fun c => heldc G j a c && p c) 16 && decide (fr < G (96 + 32 * j + 6) + G (96 + 32 * j + (16 + a)))
def ovl (G : Nat → Int) (p : Nat → Bool) (fr to : Int) : Bool := anyN (ovS G p fr to) 12 || anyN (fun j => anyN (ovA G p fr j) (G (96 + 32 * j + 4)).toNat) (G 1).toNat
theorem cset_and0 {p q : Nat → Bool} : zw (zand (cset p) (cset q)) = 0 ↔ anyN (fun c => p c && q c) 16 = false := by
  rw [cset_and, zw_cset, cset_zero]
  constructor
  · intro h; exact anyN_none h
  · intro h c hc
    cases e : (p c && q c) with
    | false => rfl
    | true => rw [anyN_iff.mpr ⟨c, hc, e⟩] at h; cases h
theorem c_overlaps {d : Nat} {Q : ZQ} {H : ZH} {m : Nat} {s : MS} {p : Nat → Bool} {fr to : Int} (hM : MI H m) (hg : gok (s 1)) (hf : 0 ≤ fr ∧ fr ≤ 1000000) (ht : 0 ≤ to ∧ to ≤ 1000000)
    (h : Q [zI (if ovl (s 1) p fr to = true then 1 else 0)] (mput H m s)) : zcall ztb (d + 3) mX6_overlaps [zR m, zI (cset p), zI fr, zI to] (mput H m s) Q := by
  have hh := hg.1
  unfold hok at hh
  have h1 : ovl (s 1) p fr to = true → Q [zI 1] (mput H m s) := fun e => by rw [if_pos e] at h; exact h
  have h0 : ovl (s 1) p fr to = false → Q [zI 0] (mput H m s) := fun e => by rw [if_neg (by rw [e]; decide)] at h; exact h
  have l63 : ∀ r j : Nat, (j : Int) + r = s 1 1 → anyN (ovS (s 1) p fr to) 12 = false → anyN (fun j => anyN (ovA (s 1) p fr j) (s 1 (96 + 32 * j + 4)).toNat) j = false →
      zwp (zcall ztb (d + 2)) t_X6_overlaps Q 63 [some (zR m), some (zI (cset p)), some (zI fr), none, some (zI j), none] [] (mput H m s) := by
    intro r
    induction r with
    | zero =>
      intro j hj hs ha
      apply bm_X6_overlaps_63 hM
      simp (disch := omega) only [zw_id]
      refine ⟨fun _ => h0 ?_, fun e => absurd e (by omega)⟩
      unfold ovl; rw [hs, show (s 1 1).toNat = j by omega, ha]; rfl
    | succ r ih =>
      intro j hj hs ha
      obtain ⟨b1, b2⟩ := hg.2.1 j (by omega)
      unfold jok at b1
      have l77 : ∀ q a : Nat, (a : Int) + q = s 1 (96 + 32 * j + 4) → anyN (ovA (s 1) p fr j) a = false →
          zwp (zcall ztb (d + 2)) t_X6_overlaps Q 77 [some (zR m), some (zI (cset p)), some (zI fr), none, some (zI j), some (zI a)] [] (mput H m s) := by
        intro q
        induction q with
        | zero =>
          intro a haq hn
          apply bm_X6_overlaps_77 hM
          simp (disch := omega) only [zw_id, jx, Int.reduceToNat]
          refine ⟨by omega, fun _ => ih (j + 1) (by omega) hs ?_, fun e => absurd e (by omega)⟩
          rw [anyN_s, ha, show (s 1 (96 + 32 * j + 4)).toNat = a by omega, hn]; rfl
        | succ q ih2 =>
          intro a haq hn
          have b2 := b2 a (by omega)
          unfold aok at b2
          have no : ovA (s 1) p fr j a = false → zwp (zcall ztb (d + 2)) t_X6_overlaps Q 77 [some (zR m), some (zI (cset p)), some (zI fr), none, some (zI j), some (zI (a + 1 : Nat))] [] (mput H m s) :=
            fun e => ih2 (a + 1) (by omega) (by rw [anyN_s, hn, e]; rfl)
          apply bm_X6_overlaps_77 hM
          simp (disch := omega) only [zw_id, jx, jxa, Int.reduceToNat]
          refine ⟨by omega, fun e => absurd e (by omega), fun _ => ⟨by omega, fun e => no (by unfold ovA hld; simp [e]), fun e => ⟨by omega, fun e2 => no (by unfold ovA hld; simp; intros; omega), fun e2 => ⟨by omega, by omega, ?_⟩⟩⟩⟩
          rw [cset_cov (by omega) (by omega) (by omega), cset_and0]
          have hl : hld (s 1) j a = true := by unfold hld; simp; omega
          refine ⟨fun e3 => no (by unfold ovA heldc; rw [e3]; simp), fun e3 => ⟨by omega, by omega, fun e4 => no (by unfold ovA; simp; intros; omega), fun e4 => h1 ?_⟩⟩
          unfold ovl
          have : ovA (s 1) p fr j a = true := by
            unfold ovA heldc; rw [hl, (by simpa using e3 : anyN (fun c => cov (s 1 (96 + 32 * j + (20 + a))) (s 1 (96 + 32 * j + (12 + a))) c && p c) 16 = true)]; simp; omega
          rw [Bool.or_eq_true]
          exact Or.inr (anyN_iff.mpr ⟨j, by omega, anyN_iff.mpr ⟨a, by omega, this⟩⟩)
      apply bm_X6_overlaps_63 hM
      simp (disch := omega) only [zw_id]
      exact ⟨fun e => absurd e (by omega), fun _ => l77 (s 1 (96 + 32 * j + 4)).toNat 0 (by omega) rfl⟩
  have l3 : ∀ r x : Nat, x + r = 12 → anyN (ovS (s 1) p fr to) x = false →
      zwp (zcall ztb (d + 2)) t_X6_overlaps Q 3 [some (zR m), some (zI (cset p)), some (zI fr), some (zI to), some (zI x), none] [] (mput H m s) := by
    intro r
    induction r with
    | zero =>
      intro x hx hn
      have hx : x = 12 := by omega
      subst hx
      apply bm_X6_overlaps_3 hM
      exact ⟨fun _ => l63 (s 1 1).toNat 0 (by omega) hn rfl, fun e => absurd (by decide) e⟩
    | succ r ih =>
      intro x hx hn
      have hs := hg.2.2 x (by omega)
      unfold sok at hs
      have no : ovS (s 1) p fr to x = false → zwp (zcall ztb (d + 2)) t_X6_overlaps Q 3 [some (zR m), some (zI (cset p)), some (zI fr), some (zI to), some (zI (x + 1 : Nat)), none] [] (mput H m s) :=
        fun e => ih (x + 1) (by omega) (by rw [anyN_s _ x, hn, e]; rfl)
      apply bm_X6_overlaps_3 hM
      simp (disch := omega) only [zw_id, sx, Int.reduceToNat, Nat.add_zero]
      refine ⟨fun e => absurd e (by omega), fun _ => ⟨by omega, fun e => no (by unfold ovS; simp; intros; omega), fun e => ?_⟩⟩
      have hs2 := hs.2 (by omega)
      rw [cset_cov (by omega) (by omega) (by omega), cset_and0]
      simp (disch := omega) only [zw_id]
      refine ⟨by omega, by omega, fun e3 => no (by unfold ovS spanc; rw [e3]; simp), fun e3 => ⟨by omega, fun e4 => no (by unfold ovS; simp; intros; omega), fun e4 => ⟨by omega, fun e5 => no (by unfold ovS; simp; intros; omega), fun e5 => h1 ?_⟩⟩⟩
      unfold ovl
      have : ovS (s 1) p fr to x = true := by
        unfold ovS spanc; rw [(by simpa using e3 : anyN (fun c => cov (s 1 (24 + 6 * x + 1)) (s 1 (24 + 6 * x + 2) - s 1 (24 + 6 * x + 1) + 1) c && p c) 16 = true)]; simp; omega
      rw [Bool.or_eq_true]
      exact Or.inl (anyN_iff.mpr ⟨x, by omega, this⟩)
  exact bm_X6_overlaps hM (l3 12 0 rfl rfl)
/-- the first place that holds no span -/
def spP (G : Nat → Int) : Int := firstN (fun x => decide (G (24 + 6 * x) < 0)) 12
def kpG (G : Nat → Int) (x : Nat) (ab fr to ac : Int) : Nat → Int :=
  zupd (zupd (zupd (zupd (zupd (zupd (zupd G (24 + 6 * x) (G 5)) (24 + 6 * x + 1) (ab / 100)) (24 + 6 * x + 2) (ab % 100)) (24 + 6 * x + 3) fr) (24 + 6 * x + 4) to) (24 + 6 * x + 5) ac) 5 (G 5 + 1)
theorem c_keeps {d : Nat} {Q : ZQ} {H : ZH} {m : Nat} {s : MS} {ab fr to ac : Int} (hM : MI H m) (hg : gok (s 1)) (hab : 0 ≤ ab ∧ ab ≤ 2147483647) (hsp : 0 ≤ spP (s 1))
    (h : Q [zI (s 1 5)] (mput H m (mset s 1 (kpG (s 1) (spP (s 1)).toNat ab fr to ac)))) : zcall ztb (d + 3) mX6_keeps [zR m, zI ab, zI fr, zI to, zI ac] (mput H m s) Q := by
  have main : ∀ r x : Nat, x + r = 12 → firstN (fun x => decide (s 1 (24 + 6 * x) < 0)) x = -1 → zwp (zcall ztb (d + 2)) t_X6_keeps Q 3 [some (zR m), some (zI ab), some (zI fr), some (zI to), some (zI ac), some (zI x), none] [] (mput H m s) := by
    intro r
    induction r with
    | zero =>
      intro x hx hf
      have hx : x = 12 := by omega
      subst hx
      unfold spP at hsp; omega
    | succ r ih =>
      intro x hx hf
      have hs := hg.2.2 x (by omega)
      unfold sok at hs
      apply bm_X6_keeps_3 hM
      simp (disch := omega) only [zw_id, sx, Int.reduceToNat, Nat.add_zero]
      refine ⟨by omega, fun e => ⟨by omega, by omega, by omega, by omega, by omega, by omega, ?_⟩, fun e => ih (x + 1) (by omega) (firstN_s hf (by simp; omega))⟩
      have hft := firstN_t hf (by simpa using e) r
      rw [show x + 1 + r = 12 by omega] at hft
      unfold spP at h
      rw [hft, Int.toNat_natCast] at h
      unfold kpG at h
      rw [show ((24 : Int) + ((x : Int) * 6)).toNat = 24 + 6 * x by omega, Int.tdiv_eq_ediv_of_nonneg hab.1, tmod_n hab.1]
      simp (disch := omega) only [mup_mset, mse, mset_mset, udn, ude]
      exact h
  exact bm_X6_keeps hM (main 12 0 rfl rfl)
/-- how many shares come ahead of one's -/
def rkC (G U : Nat → Int) (a : Nat) : Int := sumN (fun b => if shF G U b a < 0 ∨ shF G U b a = 0 ∧ b < a then 1 else 0) 8
def rkF (G U : Nat → Int) (i : Int) : Int := firstN (fun a => decide (rkC G U a = i)) 8
theorem c_ranked {d : Nat} {Q : ZQ} {H : ZH} {m : Nat} {s : MS} {i : Int} (hM : MI H m) (hg : gok (s 1)) (hu : uok (s 4)) (hi : -2147483648 ≤ i ∧ i ≤ 2147483647)
    (h : Q [zI (if 0 ≤ i ∧ i ≤ 7 then rkF (s 1) (s 4) i else -1)] (mput H m s)) : zcall ztb (d + 3) mX6_ranked [zR m, zI i] (mput H m s) Q := by
  have l11 : 0 ≤ i ∧ i ≤ 7 → ∀ r a : Nat, a + r = 8 → firstN (fun a => decide (rkC (s 1) (s 4) a = i)) a = -1 → zwp (zcall ztb (d + 2)) t_X6_ranked Q 11 [some (zR m), some (zI i), some (zI a), none, none, none] [] (mput H m s) := by
    intro hi2 r
    rw [if_pos hi2] at h
    induction r with
    | zero =>
      intro a ha hf
      have ha : a = 8 := by omega
      subst ha
      apply bm_X6_ranked_11 hM
      refine ⟨fun _ => ?_, fun e => absurd (by decide) e⟩
      unfold rkF at h
      rw [hf] at h; exact h
    | succ r ih =>
      intro a ha hf
      have l22 : ∀ q b : Nat, ∀ n : Int, b + q = 8 → n = sumN (fun b => if shF (s 1) (s 4) b a < 0 ∨ shF (s 1) (s 4) b a = 0 ∧ b < a then 1 else 0) b → zwp (zcall ztb (d + 2)) t_X6_ranked Q 22 [some (zR m), some (zI i), some (zI a), some (zI n), some (zI b), none] [] (mput H m s) := by
        intro q
        induction q with
        | zero =>
          intro b n hb hn
          have hb : b = 8 := by omega
          subst hb
          have hb2 := sumN_le (f := fun b => if shF (s 1) (s 4) b a < 0 ∨ shF (s 1) (s 4) b a = 0 ∧ b < a then (1 : Int) else 0) (b := 1) (n := 8) (fun k _ => by split <;> omega)
          apply bm_X6_ranked_22 hM
          simp (disch := omega) only [zw_id]
          refine ⟨fun _ => ⟨fun e => ih (a + 1) (by omega) (firstN_s hf ?_), fun e => ?_⟩, fun e => absurd (by decide) e⟩
          · unfold rkC; rw [← hn]; simpa using e
          · have hft := firstN_t hf (show decide (rkC (s 1) (s 4) a = i) = true by unfold rkC; rw [← hn]; simpa using e) r
            rw [show a + 1 + r = 8 by omega] at hft
            unfold rkF at h
            rw [hft] at h; exact h
        | succ q ih2 =>
          intro b n hb hn
          have ih2 := ih2 (b + 1)
          rw [sumN_s] at ih2
          apply bm_X6_ranked_22 hM
          simp (disch := omega) only [zw_id]
          refine ⟨fun e => absurd e (by omega), fun _ => ?_⟩
          refine c_byShare (d := d + 1) hM hg hu (by omega) (by omega) ?_
          have hs : -1 ≤ shF (s 1) (s 4) b a ∧ shF (s 1) (s 4) b a ≤ 1 := by unfold shF; split; omega; split <;> omega
          apply bm_X6_ranked_36 hM
          simp (disch := omega) only [zw_id]
          refine ⟨fun e => ih2 _ (by omega) ?_, fun e => ⟨fun e2 => ih2 _ (by omega) ?_, fun e2 => ⟨fun e3 => ih2 _ (by omega) ?_, fun e3 => ih2 _ (by omega) ?_⟩⟩⟩
          · rw [if_pos (by omega)]; omega
          · rw [if_neg (by omega)]; omega
          · rw [if_neg (by omega)]; omega
          · rw [if_pos (by omega)]; omega
      apply bm_X6_ranked_11 hM
      simp (disch := omega) only [zw_id]
      exact ⟨fun e => absurd e (by omega), fun _ => l22 8 0 0 rfl rfl⟩
  apply bm_X6_ranked hM
  simp (disch := omega) only [zw_id]
  refine ⟨fun e => ?_, fun e => ⟨fun e2 => ?_, fun e2 => l11 (by omega) 8 0 rfl rfl⟩⟩
  · rw [if_neg (by omega)] at h; exact h
  · rw [if_neg (by omega)] at h; exact h
/-! THE MODEL: offs -/
def foldN {S : Type} (f : Nat → S → S) (s : S) : Nat → S
  | 0 => s
  | n + 1 => f n (foldN f s n)
def ofA (G : Nat → Int) (j n : Nat) : Nat → Int := fun i => if 96 + 32 * j + 24 ≤ i ∧ i < 96 + 32 * j + 24 + n ∧ hld G j (i - (96 + 32 * j + 24)) = true then G 0 else G i
theorem ofA_s (B : Nat → Int) (j n : Nat) : ofA B j (n + 1) = if hld B j n = true then zupd (ofA B j n) (96 + 32 * j + (24 + n)) (B 0) else ofA B j n := by
  funext i
  by_cases c : hld B j n = true
  · rw [if_pos c]
    unfold ofA zupd
    by_cases e : i = 96 + 32 * j + (24 + n)
    · subst e
      rw [if_pos rfl, show 96 + 32 * j + (24 + n) - (96 + 32 * j + 24) = n by omega, if_pos ⟨by omega, by omega, c⟩]
    · rw [if_neg e]
      dsimp only
      by_cases h : 96 + 32 * j + 24 ≤ i ∧ i < 96 + 32 * j + 24 + n ∧ hld B j (i - (96 + 32 * j + 24)) = true
      · rw [if_pos h, if_pos ⟨h.1, by omega, h.2.2⟩]
      · rw [if_neg h, if_neg (fun q => h ⟨q.1, by omega, q.2.2⟩)]
  · rw [if_neg c]
    unfold ofA
    by_cases h : 96 + 32 * j + 24 ≤ i ∧ i < 96 + 32 * j + 24 + n ∧ hld B j (i - (96 + 32 * j + 24)) = true
    · rw [if_pos h, if_pos ⟨h.1, by omega, h.2.2⟩]
    · rw [if_neg h, if_neg (fun q => by
        by_cases e : i - (96 + 32 * j + 24) = n
        · rw [e] at q; exact c q.2.2
        · exact h ⟨q.1, by omega, q.2.2⟩)]
theorem ofA_0 (B : Nat → Int) (j : Nat) : ofA B j 0 = B := funext fun i => by unfold ofA; rw [if_neg (by omega)]
theorem ofA_o {B : Nat → Int} {j n i : Nat} (hn : n ≤ 4) (h : i < 96 + 32 * j + 24 ∨ 96 + 32 * j + 28 ≤ i) : ofA B j n i = B i := by
  unfold ofA; rw [if_neg (by omega)]
theorem ofA_e {B : Nat → Int} {j n a : Nat} (ha : n ≤ a) : ofA B j n (96 + 32 * j + (24 + a)) = B (96 + 32 * j + (24 + a)) := by
  unfold ofA; rw [if_neg (by omega)]
theorem ofA_i {B : Nat → Int} {j n a : Nat} (ha : a < n) : ofA B j n (96 + 32 * j + (24 + a)) = if hld B j a = true then B 0 else B (96 + 32 * j + (24 + a)) := by
  unfold ofA
  rw [show 96 + 32 * j + (24 + a) - (96 + 32 * j + 24) = a by omega]
  by_cases c : hld B j a = true
  · rw [if_pos c, if_pos ⟨by omega, by omega, c⟩]
  · rw [if_neg c, if_neg (fun q => c q.2.2)]
/-- one job goes off -/
def of1 (G : Nat → Int) (j : Nat) : Nat → Int := evF (zupd (zupd (zupd (ofA G j (armd G j)) (96 + 32 * j + 5) 4) (96 + 32 * j + 7) (G 0)) (96 + 32 * j + 9) (-1)) 4 j
theorem of1_o {G : Nat → Int} {j i : Nat} (hg : gok G) (hj : (j : Int) < G 1) (h : i < 7 ∨ 8 ≤ i ∧ i < 96 + 32 * j + 5 ∨ i = 96 + 32 * j + 6 ∨ i = 96 + 32 * j + 8 ∨ 96 + 32 * j + 10 ≤ i ∧ i < 96 + 32 * j + 24 ∨ 96 + 32 * j + 28 ≤ i ∧ i < 2736 ∨ 2916 ≤ i) : of1 G j i = G i := by
  have hh := hg.1
  unfold hok at hh
  obtain ⟨b1, b2⟩ := hg.2.1 j hj
  unfold jok at b1
  have hn : armd G j ≤ 4 := by unfold armd; omega
  unfold of1
  rw [evF_o (by rw [udn (by omega), udn (by omega), udn (by omega), ofA_o hn (by omega)]; omega) (by omega), udn (by omega), udn (by omega), udn (by omega), ofA_o hn (by omega)]
theorem of1_j {G : Nat → Int} {j : Nat} (hg : gok G) (hj : (j : Int) < G 1) : of1 G j (96 + 32 * j + 5) = 4 ∧ of1 G j (96 + 32 * j + 7) = G 0 ∧ of1 G j (96 + 32 * j + 9) = -1 ∧
    (∀ a : Nat, (a : Int) < G (96 + 32 * j + 4) → of1 G j (96 + 32 * j + (24 + a)) = if hld G j a = true then G 0 else G (96 + 32 * j + (24 + a))) ∧ (0 ≤ of1 G j 7 ∧ of1 G j 7 ≤ 60) := by
  have hh := hg.1
  unfold hok at hh
  obtain ⟨b1, b2⟩ := hg.2.1 j hj
  unfold jok at b1
  have hn : armd G j ≤ 4 := by unfold armd; omega
  have b7 : 0 ≤ zupd (zupd (zupd (ofA G j (armd G j)) (96 + 32 * j + 5) 4) (96 + 32 * j + 7) (G 0)) (96 + 32 * j + 9) (-1) 7 ∧ zupd (zupd (zupd (ofA G j (armd G j)) (96 + 32 * j + 5) 4) (96 + 32 * j + 7) (G 0)) (96 + 32 * j + 9) (-1) 7 ≤ 60 := by
    rw [udn (by omega), udn (by omega), udn (by omega), ofA_o hn (by omega)]; omega
  unfold of1
  refine ⟨?_, ?_, ?_, fun a ha => ?_, evF_7 b7⟩
  · rw [evF_o b7 (by omega), udn (by omega), udn (by omega), ude]
  · rw [evF_o b7 (by omega), udn (by omega), ude]
  · rw [evF_o b7 (by omega), ude]
  · rw [evF_o b7 (by omega), udn (by omega), udn (by omega), udn (by omega), ofA_i (by unfold armd; omega)]
theorem of1_gok {G : Nat → Int} {j : Nat} (hg : gok G) (hj : (j : Int) < G 1) : gok (of1 G j) := by
  have hh := hg.1
  unfold hok at hh
  obtain ⟨b1, b2⟩ := hg.2.1 j hj
  unfold jok at b1
  obtain ⟨j5, j7, j9, j24, g7⟩ := of1_j hg hj
  have o := fun i h => of1_o (i := i) hg hj h
  refine gok_job hg j (fun i h1 h2 h3 => o i (by omega)) (by rw [o 6 (by omega)]; omega) g7 (fun k w hk hkj hw => o _ (by omega)) (fun _ => ⟨?_, fun a ha => ?_⟩)
  · unfold jok
    rw [o (96 + 32 * j) (by omega), o (96 + 32 * j + 1) (by omega), o (96 + 32 * j + 2) (by omega), o (96 + 32 * j + 3) (by omega), o (96 + 32 * j + 4) (by omega), j5, o (96 + 32 * j + 6) (by omega), j7, o (96 + 32 * j + 8) (by omega), j9, o (96 + 32 * j + 10) (by omega), o (96 + 32 * j + 11) (by omega)]
    omega
  · rw [o (96 + 32 * j + 4) (by omega)] at ha
    have b2 := b2 a ha
    unfold aok at b2 ⊢
    rw [o (96 + 32 * j + (12 + a)) (by omega), o (96 + 32 * j + (16 + a)) (by omega), o (96 + 32 * j + (20 + a)) (by omega), j24 a ha, o (96 + 32 * j + (28 + a)) (by omega), j5, j9]
    split <;> omega
theorem of1_stk {G : Nat → Int} {j : Nat} (hg : gok G) (hs : stk G) (hj : (j : Int) < G 1) : stk (of1 G j) := by
  have hh := hg.1
  unfold hok at hh
  obtain ⟨j5, j7, j9, j24, g7⟩ := of1_j hg hj
  have o := fun i h => of1_o (i := i) hg hj h
  obtain ⟨a1, a2, a3⟩ := hs
  unfold stk
  rw [o 1 (by omega), o 6 (by omega)]
  refine ⟨?_, fun k hk h5 => ?_, fun k hk => ?_⟩
  · rw [a1]; exact sumN_congr fun k hk => by
      by_cases e : k = j
      · subst e; rw [o _ (by omega)]
      · rw [o _ (by omega)]
  · by_cases e : k = j
    · subst e; omega
    · rw [o _ (by omega)] at h5 ⊢; exact a2 k hk h5
  · rw [o _ (by omega)]; exact a3 k hk
abbrev OS : Type := (Nat → Int) × (Nat → Int) × Int
/-- a job goes off, and those that wait for it -/
def ofF : Nat → (Nat → Int) → (Nat → Int) → Nat → OS
  | 0, G, U, j => (of1 G j, zupd U 11 (U 11 + 1), 1)
  | f + 1, G, U, j => foldN (fun i p => if p.1 (96 + 32 * (j + 1 + i) + 5) = 0 ∧ p.1 (96 + 32 * (j + 1 + i) + 3) = j then ((ofF f p.1 p.2.1 (j + 1 + i)).1, (ofF f p.1 p.2.1 (j + 1 + i)).2.1, p.2.2 + (ofF f p.1 p.2.1 (j + 1 + i)).2.2) else p)
      (of1 G j, zupd U 11 (U 11 + 1), 1) ((G 1).toNat - (j + 1))
/-- what stays so -/
def ofI (G0 U0 : Nat → Int) (p : OS) : Prop := gok p.1 ∧ stk p.1 ∧ (∀ i, i < 7 ∨ 8 ≤ i ∧ i < 96 ∨ 2916 ≤ i → p.1 i = G0 i) ∧ (∀ a, a ≠ 11 → p.2.1 a = U0 a) ∧ 0 ≤ p.2.2
theorem ofI_trans {G0 U0 : Nat → Int} {p q : OS} (h : ofI G0 U0 p) (h2 : ofI p.1 p.2.1 q) : ofI G0 U0 q :=
  ⟨h2.1, h2.2.1, fun i hi => by rw [h2.2.2.1 i hi, h.2.2.1 i hi], fun a ha => by rw [h2.2.2.2.1 a ha, h.2.2.2.1 a ha], h2.2.2.2.2⟩
theorem of1_I {G U : Nat → Int} {j : Nat} (hg : gok G) (hs : stk G) (hj : (j : Int) < G 1) : ofI G U (of1 G j, zupd U 11 (U 11 + 1), 1) :=
  ⟨of1_gok hg hj, of1_stk hg hs hj, fun i hi => of1_o hg hj (by omega), fun a ha => udn ha, by show (0 : Int) ≤ 1; omega⟩
theorem ofF_I : ∀ (f : Nat) {G U : Nat → Int} {j : Nat}, gok G → stk G → (j : Int) < G 1 → ofI G U (ofF f G U j)
  | 0, G, U, j, hg, hs, hj => of1_I hg hs hj
  | f + 1, G, U, j, hg, hs, hj => by
    rw [ofF]
    have hh := hg.1
    unfold hok at hh
    generalize hF : (fun (i : Nat) (p : OS) => if p.1 (96 + 32 * (j + 1 + i) + 5) = 0 ∧ p.1 (96 + 32 * (j + 1 + i) + 3) = j then ((ofF f p.1 p.2.1 (j + 1 + i)).1, (ofF f p.1 p.2.1 (j + 1 + i)).2.1, p.2.2 + (ofF f p.1 p.2.1 (j + 1 + i)).2.2) else p) = F
    have main : ∀ n : Nat, (j : Int) + 1 + n ≤ G 1 → ofI G U (foldN F (of1 G j, zupd U 11 (U 11 + 1), 1) n) := by
      intro n
      induction n with
      | zero => intro _; exact of1_I hg hs hj
      | succ n ih =>
        intro hn
        have ih := ih (by omega)
        have e1 := ih.2.2.1 1 (by omega)
        rw [foldN, ← hF]
        dsimp only
        rw [hF]
        split
        · have r := ofF_I f (U := (foldN F (of1 G j, zupd U 11 (U 11 + 1), 1) n).2.1) (j := j + 1 + n) ih.1 ih.2.1 (by rw [e1]; omega)
          have t := ofI_trans ih r
          exact ⟨t.1, t.2.1, t.2.2.1, t.2.2.2.1, by have := ih.2.2.2.2; have := r.2.2.2.2; dsimp only; omega⟩
        · exact ih
    exact main _ (by omega)
theorem l_offs {d : Nat} {Q : ZQ} {H : ZH} {m : Nat} {s : MS} {j : Nat} (hM : MI H m) (hg : gok (s 1)) (hs : stk (s 1)) (hj : (j : Int) < s 1 1)
    (h : ∀ s', fr s s' → s' 1 = of1 (s 1) j → s' 4 = zupd (s 4) 11 (s 4 11 + 1) → zwp (zcall ztb (d + 2)) t_X6_offs Q 93 [some (zR m), some (zI j), some (zI 1), some (zI ((j : Int) + 1))] [] (mput H m s')) :
    zwp (zcall ztb (d + 2)) t_X6_offs Q 2 [some (zR m), some (zI j), some (zI 0), none] [] (mput H m s) := by
  have hh := hg.1
  unfold hok at hh
  obtain ⟨b1, b2⟩ := hg.2.1 j hj
  unfold jok at b1
  have hn4 : armd (s 1) j ≤ 4 := by unfold armd; omega
  have main : ∀ r n : Nat, n + r = armd (s 1) j → zwp (zcall ztb (d + 2)) t_X6_offs Q 2 [some (zR m), some (zI j), some (zI n), none] [] (mput H m (mset s 1 (ofA (s 1) j n))) := by
    intro r
    induction r with
    | zero =>
      intro n hn
      have hn : n = armd (s 1) j := by omega
      subst hn
      have e4 : ofA (s 1) j (armd (s 1) j) (96 + 32 * j + 4) = armd (s 1) j := by rw [ofA_o hn4 (by omega)]; unfold armd; omega
      have e0 : ofA (s 1) j (armd (s 1) j) 0 = s 1 0 := ofA_o hn4 (by omega)
      have e7 : ofA (s 1) j (armd (s 1) j) 7 = s 1 7 := ofA_o hn4 (by omega)
      apply bm_X6_offs_2 hM
      simp (disch := omega) only [zw_id, mse, jx, Int.reduceToNat, e4, mup_mset, mset_mset, udn, e0]
      refine ⟨by omega, fun _ => ⟨by omega, by omega, by omega, ?_⟩, fun e => absurd e (by omega)⟩
      refine c_happens (d := d + 1) (s := mset s 1 (zupd (zupd (zupd (ofA (s 1) j (armd (s 1) j)) (96 + 32 * j + 5) 4) (96 + 32 * j + 7) (s 1 0)) (96 + 32 * j + 9) (-1))) hM (by rw [mse, udn (by omega), udn (by omega), udn (by omega), e7]; omega) ?_
      rw [mse, mset_mset]
      apply bm_X6_offs_76 hM
      simp only [mup_mset, mse, msn (show ¬ 4 = 1 by omega), mset_mset]
      refine h _ (fr_mset (fr_mset (fr_refl s) (by omega)) (by omega)) ?_ mse
      rw [msn (by omega), mse]; rfl
    | succ r ih =>
      intro n hn
      have ih := ih (n + 1) (by omega)
      rw [ofA_s] at ih
      have b2 := b2 n (by unfold armd at hn; omega)
      unfold aok at b2
      have e4 : ofA (s 1) j n (96 + 32 * j + 4) = armd (s 1) j := by rw [ofA_o (by omega) (by omega)]; unfold armd; omega
      have e0 : ofA (s 1) j n 0 = s 1 0 := ofA_o (by omega) (by omega)
      have e5 : ofA (s 1) j n (96 + 32 * j + 5) = s 1 (96 + 32 * j + 5) := ofA_o (by omega) (by omega)
      have e24 : ofA (s 1) j n (96 + 32 * j + (24 + n)) = s 1 (96 + 32 * j + (24 + n)) := ofA_e (by omega)
      apply bm_X6_offs_2 hM
      simp (disch := omega) only [zw_id, mse, jx, jxa, Int.reduceToNat, e4, mup_mset, mset_mset, e0, e5, e24]
      refine ⟨by omega, fun e => absurd e (by omega), fun _ => ⟨by omega, fun e => ?_, fun e => ⟨by omega, fun e2 => ?_, fun e2 => ?_⟩⟩⟩
      · rw [if_neg (by unfold hld; simp [e])] at ih; exact ih
      · rw [if_neg (by unfold hld; simp; omega)] at ih; exact ih
      · rw [if_pos (by unfold hld; simp; omega)] at ih; exact ih
  have m0 := main (armd (s 1) j) 0 (by omega)
  rw [ofA_0, mset_self] at m0
  exact m0
theorem c_offs {H : ZH} {m : Nat} (hM : MI H m) : ∀ (f d : Nat) {Q : ZQ} {s : MS} {j : Nat}, gok (s 1) → stk (s 1) → (j : Int) < s 1 1 → s 1 1 ≤ (j : Int) + 1 + f →
    (∀ s', fr s s' → s' 1 = (ofF f (s 1) (s 4) j).1 → s' 4 = (ofF f (s 1) (s 4) j).2.1 → Q [zI (ofF f (s 1) (s 4) j).2.2] (mput H m s')) → zcall ztb (d + f + 3) mX6_offs [zR m, zI j] (mput H m s) Q := by
  intro f
  induction f with
  | zero =>
    intro d Q s j hg hs hj hf h
    have hh := hg.1
    unfold hok at hh
    obtain ⟨b1, b2⟩ := hg.2.1 j hj
    unfold jok at b1
    have I0 := of1_I (U := s 4) hg hs hj
    refine bm_X6_offs (d := d) hM (l_offs hM hg hs hj ?_)
    intro s' f1 f2 f3
    have e1 : s' 1 1 = s 1 1 := by rw [f2]; exact I0.2.2.1 1 (by omega)
    apply bm_X6_offs_93 (d := d) hM
    simp (disch := omega) only [zw_id, e1]
    exact ⟨fun _ => h s' f1 f2 f3, fun e => absurd e (by omega)⟩
  | succ f ihf =>
    intro d Q s j hg hs hj hf h
    have hh := hg.1
    unfold hok at hh
    refine bm_X6_offs (d := d + f + 1) hM (l_offs (d := d + f + 1) hM hg hs hj ?_)
    rw [ofF] at h
    have I0 := of1_I (U := s 4) hg hs hj
    generalize hF : (fun (i : Nat) (p : OS) => if p.1 (96 + 32 * (j + 1 + i) + 5) = 0 ∧ p.1 (96 + 32 * (j + 1 + i) + 3) = j then ((ofF f p.1 p.2.1 (j + 1 + i)).1, (ofF f p.1 p.2.1 (j + 1 + i)).2.1, p.2.2 + (ofF f p.1 p.2.1 (j + 1 + i)).2.2) else p) = F at h
    have hI : ∀ n : Nat, (j : Int) + 1 + n ≤ s 1 1 → ofI (s 1) (s 4) (foldN F (of1 (s 1) j, zupd (s 4) 11 (s 4 11 + 1), 1) n) := by
      intro n
      induction n with
      | zero => intro _; exact I0
      | succ n ih =>
        intro hn
        have ih := ih (by omega)
        have e1 := ih.2.2.1 1 (by omega)
        rw [foldN, ← hF]
        dsimp only
        rw [hF]
        split
        · have r := ofF_I f (U := (foldN F (of1 (s 1) j, zupd (s 4) 11 (s 4 11 + 1), 1) n).2.1) (j := j + 1 + n) ih.1 ih.2.1 (by rw [e1]; omega)
          have t := ofI_trans ih r
          exact ⟨t.1, t.2.1, t.2.2.1, t.2.2.2.1, by have := ih.2.2.2.2; have := r.2.2.2.2; dsimp only; omega⟩
        · exact ih
    have main : ∀ r n : Nat, n + r = (s 1 1).toNat - (j + 1) → ∀ s', fr s s' → s' 1 = (foldN F (of1 (s 1) j, zupd (s 4) 11 (s 4 11 + 1), 1) n).1 → s' 4 = (foldN F (of1 (s 1) j, zupd (s 4) 11 (s 4 11 + 1), 1) n).2.1 →
        zwp (zcall ztb (d + f + 1 + 2)) t_X6_offs Q 93 [some (zR m), some (zI j), some (zI (foldN F (of1 (s 1) j, zupd (s 4) 11 (s 4 11 + 1), 1) n).2.2), some (zI (j + 1 + n : Nat))] [] (mput H m s') := by
      intro r
      induction r with
      | zero =>
        intro n hn s' f1 f2 f3
        have hn : n = (s 1 1).toNat - (j + 1) := by omega
        have hI := hI n (by omega)
        have e1 : s' 1 1 = s 1 1 := by rw [f2]; exact hI.2.2.1 1 (by omega)
        apply bm_X6_offs_93 (d := d + f + 1) hM
        simp (disch := omega) only [zw_id, e1]
        refine ⟨fun _ => ?_, fun e => absurd e (by omega)⟩
        rw [hn] at f2 f3 ⊢
        exact h s' f1 f2 f3
      | succ r ih =>
        intro n hn s' f1 f2 f3
        have ih := ih (n + 1) (by omega)
        have hI := hI n (by omega)
        have e1 : s' 1 1 = s 1 1 := by rw [f2]; exact hI.2.2.1 1 (by omega)
        have hg' : gok (s' 1) := by rw [f2]; exact hI.1
        have hs' : stk (s' 1) := by rw [f2]; exact hI.2.1
        obtain ⟨c1, c2⟩ := hg'.2.1 (j + 1 + n) (by omega)
        unfold jok at c1
        rw [foldN, ← hF] at ih
        dsimp only at ih
        rw [hF, ← f2] at ih
        have no : ¬ (s' 1 (96 + 32 * (j + 1 + n) + 5) = 0 ∧ s' 1 (96 + 32 * (j + 1 + n) + 3) = j) → zwp (zcall ztb (d + f + 1 + 2)) t_X6_offs Q 93 [some (zR m), some (zI j), some (zI ((foldN F (of1 (s 1) j, zupd (s 4) 11 (s 4 11 + 1), 1) n).2.2 + 0)), some (zI (j + 1 + (n + 1) : Nat))] [] (mput H m s') := by
          intro e
          rw [if_neg e] at ih
          rw [Int.add_zero]; exact ih s' f1 f2 f3
        apply bm_X6_offs_93 (d := d + f + 1) hM
        simp (disch := omega) only [zw_id, e1, jx, Int.reduceToNat]
        refine ⟨fun e => absurd e (by omega), fun _ => ⟨by omega, fun e => no (fun q => e q.1), fun e => ⟨by omega, fun e2 => no (fun q => e2 q.2), fun e2 => ?_⟩⟩⟩
        rw [if_pos ⟨by omega, by omega⟩] at ih
        refine ihf d hg' hs' (by omega) (by omega) (fun s'' k1 k2 k3 => ?_)
        apply bm_X6_offs_127 (d := d + f + 1) hM
        rw [← f3] at ih
        exact ih s'' (fr_trans f1 k1) k2 k3
    intro s' f1 f2 f3
    exact main _ 0 (Nat.zero_add _) s' f1 f2 f3
/-! THE MODEL: takenTo, begins, gap, promised -/
theorem csz1 {p : Nat → Bool} {c : Nat} (hc : c < 16) : (zw (zand (zshr (cset p) (c : Int)) 1) = 1) ↔ p c = true := by
  rw [cset_at p hc]
  cases h : p c with
  | true => simp; decide
  | false => simp; decide
/-- the greatest of t and of those that P holds of -/
def mxr (t : Int) (P : Int → Prop) (b : Int) : Prop := t ≤ b ∧ (b = t ∨ P b) ∧ ∀ v, P v → v ≤ b
theorem mxr_u {t : Int} {P : Int → Prop} {b c : Int} (h1 : mxr t P b) (h2 : mxr t P c) : b = c := by
  obtain ⟨a1, a2, a3⟩ := h1
  obtain ⟨b1, b2, b3⟩ := h2
  rcases a2 with a2 | a2 <;> rcases b2 with b2 | b2
  · omega
  · have := a3 c b2; omega
  · have := b3 b a2; omega
  · have := a3 c b2; have := b3 b a2; omega
theorem mxr_0 {t : Int} {P : Int → Prop} (h : ∀ v, ¬ P v) : mxr t P t := ⟨by omega, Or.inl rfl, fun v hv => absurd hv (h v)⟩
theorem mxr_c {t : Int} {P P' : Int → Prop} {b : Int} (h : mxr t P b) (hp : ∀ v, P' v ↔ P v) : mxr t P' b := by
  have : P' = P := funext fun v => propext (hp v)
  rw [this]; exact h
theorem mxr_s {t : Int} {P P' : Int → Prop} {b v e : Int} (h : mxr t P b) (hp : ∀ x, P' x ↔ P x ∨ x = v) (he : e = max b v) : mxr t P' e := by
  obtain ⟨a1, a2, a3⟩ := h
  refine ⟨by omega, ?_, fun x hx => ?_⟩
  · by_cases q : b < v
    · exact Or.inr ((hp e).mpr (Or.inr (by omega)))
    · rw [show e = b by omega]
      exact a2.imp id (fun z => (hp b).mpr (Or.inl z))
  · rcases (hp x).mp hx with h | h
    · have := a3 x h; omega
    · omega
def tkA1 (G : Nat → Int) (c j a : Nat) (v : Int) : Prop := (hld G j a && heldc G j a c) = true ∧ v = G (96 + 32 * j + 6) + G (96 + 32 * j + (16 + a))
def tkA2 (G : Nat → Int) (c : Nat) (t : Int) (j a : Nat) (v : Int) : Prop := (0 ≤ G (96 + 32 * j + 9) ∧ G (96 + 32 * j + 9) ≤ t ∧ promc G j a c = true) ∧ v = G (96 + 32 * j + 9) + G (96 + 32 * j + (16 + a))
def tkX (G : Nat → Int) (c : Nat) (t : Int) (x : Nat) (v : Int) : Prop := (0 ≤ G (24 + 6 * x) ∧ G (24 + 6 * x + 3) ≤ t ∧ spanc G x c = true) ∧ v = G (24 + 6 * x + 4)
def tkJ (G : Nat → Int) (c : Nat) (t : Int) (j : Nat) (v : Int) : Prop := ∃ a, a < (G (96 + 32 * j + 4)).toNat ∧ (tkA1 G c j a v ∨ tkA2 G c t j a v)
def tkC (G : Nat → Int) (c : Nat) (t : Int) (v : Int) : Prop := (∃ j, j < (G 1).toNat ∧ tkJ G c t j v) ∨ ∃ x, x < 12 ∧ tkX G c t x v
def bgA (G : Nat → Int) (c j a : Nat) (v : Int) : Prop := (0 ≤ G (96 + 32 * j + 9) ∧ promc G j a c = true) ∧ v = G (96 + 32 * j + 9)
def bgX (G : Nat → Int) (c x : Nat) (v : Int) : Prop := (0 ≤ G (24 + 6 * x) ∧ spanc G x c = true) ∧ v = G (24 + 6 * x + 3)
def bgC (G : Nat → Int) (c : Nat) (v : Int) : Prop := (∃ j, j < (G 1).toNat ∧ ∃ a, a < (G (96 + 32 * j + 4)).toNat ∧ bgA G c j a v) ∨ ∃ x, x < 12 ∧ bgX G c x v
theorem exN {P : Nat → Prop} {n : Nat} (h : ¬ P n) : (∃ i, i < n + 1 ∧ P i) ↔ ∃ i, i < n ∧ P i := by
  rw [exS]; exact ⟨fun q => q.elim id fun z => absurd z h, Or.inl⟩
theorem c_takenTo {d : Nat} {Q : ZQ} {H : ZH} {m : Nat} {s : MS} {c : Nat} {t : Int} (hM : MI H m) (hg : gok (s 1)) (hc : c < 16) (ht : 0 ≤ t ∧ t ≤ 1000000)
    (h : ∀ b, mxr t (tkC (s 1) c t) b → Q [zI b] (mput H m s)) : zcall ztb (d + 3) mX6_takenTo [zR m, zI c, zI t] (mput H m s) Q := by
  have hh := hg.1
  unfold hok at hh
  have l142 : ∀ r x : Nat, ∀ b : Int, x + r = 12 → b ≤ 1000000 → mxr t (fun v => (∃ j, j < (s 1 1).toNat ∧ tkJ (s 1) c t j v) ∨ ∃ x', x' < x ∧ tkX (s 1) c t x' v) b →
      zwp (zcall ztb (d + 2)) t_X6_takenTo Q 142 [some (zR m), some (zI c), some (zI t), some (zI b), some (zI x), none, none] [] (mput H m s) := by
    intro r
    induction r with
    | zero =>
      intro x b hx hb hm
      have hx : x = 12 := by omega
      subst hx
      apply bm_X6_takenTo_142 hM
      exact ⟨fun _ => h b hm, fun e => absurd (by decide) e⟩
    | succ r ih =>
      intro x b hx hb hm
      have hs := hg.2.2 x (by omega)
      unfold sok at hs
      have hbt := hm.1
      have no : (∀ v, ¬ tkX (s 1) c t x v) → zwp (zcall ztb (d + 2)) t_X6_takenTo Q 142 [some (zR m), some (zI c), some (zI t), some (zI b), some (zI (x + 1 : Nat)), none, none] [] (mput H m s) :=
        fun e => ih (x + 1) b (by omega) hb (mxr_c hm fun v => by rw [exN (e v)])
      apply bm_X6_takenTo_142 hM
      simp (disch := omega) only [zw_id, sx, Int.reduceToNat, Nat.add_zero]
      refine ⟨fun e => absurd e (by omega), fun _ => ⟨by omega, fun e => no (fun v q => by unfold tkX at q; omega), fun e => ?_⟩⟩
      have hs2 := hs.2 (by omega)
      rw [cset_cov (by omega) (by omega) (by omega), csz1 hc]
      simp (disch := omega) only [zw_id]
      refine ⟨by omega, fun e2 => no (fun v q => by unfold tkX at q; omega), fun e2 => ⟨by omega, by omega, fun e3 => no (fun v q => e3 q.1.2.2), fun e3 => ⟨by omega, ?_⟩⟩⟩
      have fin : ∀ e : Int, e = max b (s 1 (24 + 6 * x + 4)) → zwp (zcall ztb (d + 2)) t_X6_takenTo Q 142 [some (zR m), some (zI c), some (zI t), some (zI e), some (zI (x + 1 : Nat)), none, none] [] (mput H m s) := fun e he =>
        ih (x + 1) e (by omega) (by omega) (mxr_s hm (fun v => by
          rw [exS, ← or_assoc]
          unfold tkX spanc
          simp only [show 0 ≤ s 1 (24 + 6 * x) by omega, show s 1 (24 + 6 * x + 3) ≤ t by omega, Classical.not_not.mp e3, true_and]) he)
      exact ⟨fun e4 => fin _ (by omega), fun e4 => fin _ (by omega)⟩
  have l5 : ∀ r j : Nat, ∀ b : Int, (j : Int) + r = s 1 1 → b ≤ 1000000 → mxr t (fun v => ∃ j', j' < j ∧ tkJ (s 1) c t j' v) b →
      zwp (zcall ztb (d + 2)) t_X6_takenTo Q 5 [some (zR m), some (zI c), some (zI t), some (zI b), some (zI j), none, none] [] (mput H m s) := by
    intro r
    induction r with
    | zero =>
      intro j b hj hb hm
      apply bm_X6_takenTo_5 hM
      simp (disch := omega) only [zw_id]
      refine ⟨fun _ => l142 12 0 b rfl hb (mxr_c hm fun v => ?_), fun e => absurd e (by omega)⟩
      rw [show (s 1 1).toNat = j by omega]; simp
    | succ r ih =>
      intro j b hj hb hm
      obtain ⟨b1, b2⟩ := hg.2.1 j (by omega)
      unfold jok at b1
      have l29 : ∀ q a : Nat, ∀ b : Int, (a : Int) + q = s 1 (96 + 32 * j + 4) → b ≤ 1000000 → mxr t (fun v => (∃ j', j' < j ∧ tkJ (s 1) c t j' v) ∨ ∃ a', a' < a ∧ (tkA1 (s 1) c j a' v ∨ tkA2 (s 1) c t j a' v)) b →
          zwp (zcall ztb (d + 2)) t_X6_takenTo Q 29 [some (zR m), some (zI c), some (zI t), some (zI b), some (zI j), some (zI (s 1 (96 + 32 * j + 9))), some (zI a)] [] (mput H m s) := by
        intro q
        induction q with
        | zero =>
          intro a b ha hb hm
          apply bm_X6_takenTo_29 hM
          simp (disch := omega) only [zw_id, jx, Int.reduceToNat]
          refine ⟨by omega, fun _ => ih (j + 1) b (by omega) hb (mxr_c hm fun v => ?_), fun e => absurd e (by omega)⟩
          rw [exS]
          unfold tkJ
          rw [show (s 1 (96 + 32 * j + 4)).toNat = a by omega]
        | succ q ih2 =>
          intro a b ha hb hm
          have b2 := b2 a (by omega)
          unfold aok at b2
          have hbt := hm.1
          have step2 : ∀ y : Int, y ≤ 1000000 → mxr t (fun v => ((∃ j', j' < j ∧ tkJ (s 1) c t j' v) ∨ ∃ a', a' < a ∧ (tkA1 (s 1) c j a' v ∨ tkA2 (s 1) c t j a' v)) ∨ tkA1 (s 1) c j a v) y →
              zwp (zcall ztb (d + 2)) t_X6_takenTo Q 81 [some (zR m), some (zI c), some (zI t), some (zI y), some (zI j), some (zI (s 1 (96 + 32 * j + 9))), some (zI a)] [] (mput H m s) := by
            intro y hy hm
            have hyt := hm.1
            have no : (∀ v, ¬ tkA2 (s 1) c t j a v) → zwp (zcall ztb (d + 2)) t_X6_takenTo Q 29 [some (zR m), some (zI c), some (zI t), some (zI y), some (zI j), some (zI (s 1 (96 + 32 * j + 9))), some (zI (a + 1 : Nat))] [] (mput H m s) :=
              fun e => ih2 (a + 1) y (by omega) hy (mxr_c hm fun v => by rw [exS, or_assoc]; simp only [e v, or_false])
            apply bm_X6_takenTo_81 hM
            simp (disch := omega) only [zw_id, jx, jxa, Int.reduceToNat]
            refine ⟨fun e => no (fun v q => by unfold tkA2 at q; omega), fun e => ⟨fun e2 => no (fun v q => by unfold tkA2 at q; omega), fun e2 => ⟨by omega, by omega, ?_⟩⟩⟩
            rw [cset_cov (by omega) (by omega) (by omega), csz1 hc]
            refine ⟨fun e3 => no (fun v q => e3 q.1.2.2), fun e3 => ⟨by omega, ?_⟩⟩
            have fin : ∀ e : Int, e = max y (s 1 (96 + 32 * j + 9) + s 1 (96 + 32 * j + (16 + a))) → zwp (zcall ztb (d + 2)) t_X6_takenTo Q 29 [some (zR m), some (zI c), some (zI t), some (zI e), some (zI j), some (zI (s 1 (96 + 32 * j + 9))), some (zI (a + 1 : Nat))] [] (mput H m s) := fun e he =>
              ih2 (a + 1) e (by omega) (by omega) (mxr_s hm (fun v => by
                rw [exS]
                unfold tkA2 promc
                simp only [show 0 ≤ s 1 (96 + 32 * j + 9) by omega, show s 1 (96 + 32 * j + 9) ≤ t by omega, Classical.not_not.mp e3, true_and, or_assoc]) he)
            exact ⟨fun e4 => fin _ (by omega), fun e4 => fin _ (by omega)⟩
          have no : (∀ v, ¬ tkA1 (s 1) c j a v) → zwp (zcall ztb (d + 2)) t_X6_takenTo Q 81 [some (zR m), some (zI c), some (zI t), some (zI b), some (zI j), some (zI (s 1 (96 + 32 * j + 9))), some (zI a)] [] (mput H m s) :=
            fun e => step2 b hb (mxr_c hm fun v => by simp only [e v, or_false])
          apply bm_X6_takenTo_29 hM
          simp (disch := omega) only [zw_id, jx, jxa, Int.reduceToNat]
          refine ⟨by omega, fun e => absurd e (by omega), fun _ => ⟨by omega, fun e => no (fun v q => by unfold tkA1 hld at q; simp [e] at q), fun e => ⟨by omega, fun e2 => no (fun v q => by unfold tkA1 hld at q; simp at q; omega), fun e2 => ⟨by omega, by omega, ?_⟩⟩⟩⟩
          rw [cset_cov (by omega) (by omega) (by omega), csz1 hc]
          have hl : hld (s 1) j a = true := by unfold hld; simp; omega
          refine ⟨fun e3 => no (fun v q => e3 (by unfold tkA1 heldc at q; simp at q; exact q.1.2)), fun e3 => ⟨by omega, by omega, ?_⟩⟩
          have fin : ∀ e : Int, e = max b (s 1 (96 + 32 * j + 6) + s 1 (96 + 32 * j + (16 + a))) → zwp (zcall ztb (d + 2)) t_X6_takenTo Q 81 [some (zR m), some (zI c), some (zI t), some (zI e), some (zI j), some (zI (s 1 (96 + 32 * j + 9))), some (zI a)] [] (mput H m s) := fun e he =>
            step2 e (by omega) (mxr_s hm (fun v => by
              unfold tkA1 heldc
              simp only [hl, Classical.not_not.mp e3, Bool.and_self, true_and]) he)
          exact ⟨fun e4 => fin _ (by omega), fun e4 => fin _ (by omega)⟩
      apply bm_X6_takenTo_5 hM
      simp (disch := omega) only [zw_id, jx, Int.reduceToNat]
      refine ⟨fun e => absurd e (by omega), fun _ => ⟨by omega, l29 (s 1 (96 + 32 * j + 4)).toNat 0 b (by omega) hb (mxr_c hm fun v => by simp)⟩⟩
  exact bm_X6_takenTo hM (l5 (s 1 1).toNat 0 t (by omega) (by omega) (mxr_0 (by simp)))
theorem c_begins {d : Nat} {Q : ZQ} {H : ZH} {m : Nat} {s : MS} {c : Nat} {t : Int} (hM : MI H m) (hg : gok (s 1)) (hc : c < 16) (ht : 0 ≤ t ∧ t ≤ 1000000)
    (h : ∀ b, mnr t (bgC (s 1) c) b → Q [zI b] (mput H m s)) : zcall ztb (d + 3) mX6_begins [zR m, zI c, zI t] (mput H m s) Q := by
  have hh := hg.1
  unfold hok at hh
  have l91 : ∀ r x : Nat, ∀ b : Int, x + r = 12 → (-1 ≤ b ∧ b ≤ 1000000) → mnr t (fun v => (∃ j, j < (s 1 1).toNat ∧ ∃ a, a < (s 1 (96 + 32 * j + 4)).toNat ∧ bgA (s 1) c j a v) ∨ ∃ x', x' < x ∧ bgX (s 1) c x' v) b →
      zwp (zcall ztb (d + 2)) t_X6_begins Q 91 [some (zR m), some (zI c), some (zI t), some (zI b), some (zI x), none] [] (mput H m s) := by
    intro r
    induction r with
    | zero =>
      intro x b hx hb hm
      have hx : x = 12 := by omega
      subst hx
      apply bm_X6_begins_91 hM
      exact ⟨fun _ => h b hm, fun e => absurd (by decide) e⟩
    | succ r ih =>
      intro x b hx hb hm
      have hs := hg.2.2 x (by omega)
      unfold sok at hs
      have no : (∀ v, ¬ bgX (s 1) c x v) → zwp (zcall ztb (d + 2)) t_X6_begins Q 91 [some (zR m), some (zI c), some (zI t), some (zI b), some (zI (x + 1 : Nat)), none] [] (mput H m s) :=
        fun e => ih (x + 1) b (by omega) hb (mnr_c hm fun v => by rw [exN (e v)])
      apply bm_X6_begins_91 hM
      simp (disch := omega) only [zw_id, sx, Int.reduceToNat, Nat.add_zero]
      refine ⟨fun e => absurd e (by omega), fun _ => ⟨by omega, fun e => no (fun v q => by unfold bgX at q; omega), fun e => ?_⟩⟩
      have hs2 := hs.2 (by omega)
      rw [cset_cov (by omega) (by omega) (by omega), csz1 hc]
      simp (disch := omega) only [zw_id]
      refine ⟨by omega, by omega, fun e3 => no (fun v q => e3 q.1.2), fun e3 => ⟨by omega, ?_⟩⟩
      have fin : ∀ e : Int, (-1 ≤ e ∧ e ≤ 1000000) → e = snr (s 1 (24 + 6 * x + 3)) t b → zwp (zcall ztb (d + 2)) t_X6_begins Q 91 [some (zR m), some (zI c), some (zI t), some (zI e), some (zI (x + 1 : Nat)), none] [] (mput H m s) := fun e he1 he =>
        ih (x + 1) e (by omega) he1 (mnr_s (by omega) hm (fun v => by
          rw [exS, ← or_assoc]
          unfold bgX spanc
          simp only [show 0 ≤ s 1 (24 + 6 * x) by omega, Classical.not_not.mp e3, true_and]) he)
      refine ⟨fun e => fin _ (by omega) (by unfold snr; split <;> omega), fun e => ⟨fun e => fin _ (by omega) (by unfold snr; split <;> omega), fun e => ⟨fun e => fin _ (by omega) (by unfold snr; split <;> omega), fun e => fin _ (by omega) (by unfold snr; split <;> omega)⟩⟩⟩
  have l5 : ∀ r j : Nat, ∀ b : Int, (j : Int) + r = s 1 1 → (-1 ≤ b ∧ b ≤ 1000000) → mnr t (fun v => ∃ j', j' < j ∧ ∃ a, a < (s 1 (96 + 32 * j' + 4)).toNat ∧ bgA (s 1) c j' a v) b →
      zwp (zcall ztb (d + 2)) t_X6_begins Q 5 [some (zR m), some (zI c), some (zI t), some (zI b), some (zI j), none] [] (mput H m s) := by
    intro r
    induction r with
    | zero =>
      intro j b hj hb hm
      apply bm_X6_begins_5 hM
      simp (disch := omega) only [zw_id]
      refine ⟨fun _ => l91 12 0 b rfl hb (mnr_c hm fun v => ?_), fun e => absurd e (by omega)⟩
      rw [show (s 1 1).toNat = j by omega]; simp
    | succ r ih =>
      intro j b hj hb hm
      obtain ⟨b1, b2⟩ := hg.2.1 j (by omega)
      unfold jok at b1
      have l19 : ∀ q a : Nat, ∀ b : Int, (a : Int) + q = s 1 (96 + 32 * j + 4) → (-1 ≤ b ∧ b ≤ 1000000) → mnr t (fun v => (∃ j', j' < j ∧ ∃ a, a < (s 1 (96 + 32 * j' + 4)).toNat ∧ bgA (s 1) c j' a v) ∨ ∃ a', a' < a ∧ bgA (s 1) c j a' v) b →
          zwp (zcall ztb (d + 2)) t_X6_begins Q 19 [some (zR m), some (zI c), some (zI t), some (zI b), some (zI j), some (zI a)] [] (mput H m s) := by
        intro q
        induction q with
        | zero =>
          intro a b ha hb hm
          apply bm_X6_begins_19 hM
          simp (disch := omega) only [zw_id, jx, Int.reduceToNat]
          refine ⟨by omega, fun _ => ih (j + 1) b (by omega) hb (mnr_c hm fun v => ?_), fun e => absurd e (by omega)⟩
          rw [exS, show (s 1 (96 + 32 * j + 4)).toNat = a by omega]
        | succ q ih2 =>
          intro a b ha hb hm
          have b2 := b2 a (by omega)
          unfold aok at b2
          have no : (∀ v, ¬ bgA (s 1) c j a v) → zwp (zcall ztb (d + 2)) t_X6_begins Q 19 [some (zR m), some (zI c), some (zI t), some (zI b), some (zI j), some (zI (a + 1 : Nat))] [] (mput H m s) :=
            fun e => ih2 (a + 1) b (by omega) hb (mnr_c hm fun v => by rw [exN (e v)])
          apply bm_X6_begins_19 hM
          simp (disch := omega) only [zw_id, jx, jxa, Int.reduceToNat]
          refine ⟨by omega, fun e => absurd e (by omega), fun _ => ⟨by omega, fun e => no (fun v q => by unfold bgA at q; omega), fun e => ⟨by omega, by omega, ?_⟩⟩⟩
          rw [cset_cov (by omega) (by omega) (by omega), csz1 hc]
          refine ⟨fun e3 => no (fun v q => e3 q.1.2), fun e3 => ?_⟩
          have fin : ∀ e : Int, (-1 ≤ e ∧ e ≤ 1000000) → e = snr (s 1 (96 + 32 * j + 9)) t b → zwp (zcall ztb (d + 2)) t_X6_begins Q 19 [some (zR m), some (zI c), some (zI t), some (zI e), some (zI j), some (zI (a + 1 : Nat))] [] (mput H m s) := fun e he1 he =>
            ih2 (a + 1) e (by omega) he1 (mnr_s (by omega) hm (fun v => by
              rw [exS, ← or_assoc]
              unfold bgA promc
              simp only [show 0 ≤ s 1 (96 + 32 * j + 9) by omega, Classical.not_not.mp e3, true_and]) he)
          refine ⟨fun e => fin _ (by omega) (by unfold snr; split <;> omega), fun e => ⟨fun e => fin _ (by omega) (by unfold snr; split <;> omega), fun e => ⟨fun e => fin _ (by omega) (by unfold snr; split <;> omega), fun e => fin _ (by omega) (by unfold snr; split <;> omega)⟩⟩⟩
      apply bm_X6_begins_5 hM
      simp (disch := omega) only [zw_id]
      exact ⟨fun e => absurd e (by omega), fun _ => l19 (s 1 (96 + 32 * j + 4)).toNat 0 b (by omega) hb (mnr_c hm fun v => by simp)⟩
  exact bm_X6_begins hM (l5 (s 1 1).toNat 0 (-1) (by omega) (by omega) (mnr_0 (by simp)))
/-- till nothing more takes the column -/
def stR (G : Nat → Int) (c : Nat) : Nat → Int → Int → Prop
  | 0, t, r => mxr t (tkC G c t) t ∧ r = t
  | n + 1, t, r => ∃ b, mxr t (tkC G c t) b ∧ if b ≤ t then r = t else stR G c n b r
def gpR (G : Nat → Int) (c : Nat) (what : Int) : Nat → Int → Int → Int → Prop
  | 0, _, _, _ => False
  | n + 1, t, left, r => ∃ t' b k, stR G c k t t' ∧ mnr t' (bgC G c) b ∧ if left = 0 then r = (if what = 0 then t' else if b < 0 then -2 else b - t') else if b < 0 then r = -2 else gpR G c what n b (left - 1) r
theorem stR_u {G : Nat → Int} {c : Nat} : ∀ (k k' : Nat) (t r r' : Int), stR G c k t r → stR G c k' t r' → r = r'
  | 0, 0, t, r, r', h, h' => by rw [h.2, h'.2]
  | 0, k' + 1, t, r, r', h, h' => by
    obtain ⟨b, hb, h'⟩ := h'
    have := mxr_u h.1 hb
    rw [if_pos (by omega)] at h'; rw [h.2, h']
  | k + 1, 0, t, r, r', h, h' => by
    obtain ⟨b, hb, h⟩ := h
    have := mxr_u h'.1 hb
    rw [if_pos (by omega)] at h; rw [h'.2, h]
  | k + 1, k' + 1, t, r, r', h, h' => by
    obtain ⟨b, hb, h⟩ := h
    obtain ⟨b', hb', h'⟩ := h'
    have e := mxr_u hb hb'
    subst e
    by_cases q : b ≤ t
    · rw [if_pos q] at h h'; rw [h, h']
    · rw [if_neg q] at h h'; exact stR_u k k' b r r' h h'
theorem gpR_u {G : Nat → Int} {c : Nat} {what : Int} : ∀ (n n' : Nat) (t left r r' : Int), gpR G c what n t left r → gpR G c what n' t left r' → r = r'
  | 0, _, t, left, r, r', h, _ => h.elim
  | n + 1, 0, t, left, r, r', _, h' => h'.elim
  | n + 1, n' + 1, t, left, r, r', h, h' => by
    obtain ⟨t1, b, k, h1, h2, h3⟩ := h
    obtain ⟨t1', b', k', h1', h2', h3'⟩ := h'
    have e1 := stR_u _ _ _ _ _ h1 h1'
    subst e1
    have e2 := mnr_u h2 h2'
    subst e2
    by_cases q : left = 0
    · rw [if_pos q] at h3 h3'; rw [h3, h3']
    · rw [if_neg q] at h3 h3'
      by_cases q2 : b < 0
      · rw [if_pos q2] at h3 h3'; rw [h3, h3']
      · rw [if_neg q2] at h3 h3'; exact gpR_u n n' _ _ _ _ h3 h3'
theorem tkC_le {G : Nat → Int} (hg : gok G) {c : Nat} {t v : Int} (h : tkC G c t v) : v ≤ 300000 := by
  have hh := hg.1
  unfold hok at hh
  rcases h with ⟨j, hj, a, ha, h⟩ | ⟨x, hx, h⟩
  · obtain ⟨b1, b2⟩ := hg.2.1 j (by omega)
    have b2 := b2 a (by omega)
    unfold jok at b1
    unfold aok at b2
    rcases h with h | h
    · unfold tkA1 at h; omega
    · unfold tkA2 at h; omega
  · have hs := hg.2.2 x hx
    unfold sok at hs
    have := hs.2 h.1.1
    unfold tkX at h; omega
theorem bgC_le {G : Nat → Int} (hg : gok G) {c : Nat} {v : Int} (h : bgC G c v) : v ≤ 300000 := by
  have hh := hg.1
  unfold hok at hh
  rcases h with ⟨j, hj, a, ha, h⟩ | ⟨x, hx, h⟩
  · obtain ⟨b1, b2⟩ := hg.2.1 j (by omega)
    unfold jok at b1
    unfold bgA at h; omega
  · have hs := hg.2.2 x hx
    unfold sok at hs
    have := hs.2 h.1.1
    unfold bgX at h; omega
theorem c_gap {d : Nat} {Q : ZQ} {H : ZH} {m : Nat} {s : MS} {c : Nat} {i what : Int} (hM : MI H m) (hg : gok (s 1)) (hc : c < 16) (hi : 0 ≤ i ∧ i ≤ 2147483647) (hw : 0 ≤ what ∧ what ≤ 1)
    (h : ∀ n r, gpR (s 1) c what n (s 1 0) i r → Q [zI r] (mput H m s)) : zcall ztb (d + 4) mX6_gap [zR m, zI c, zI i, zI what] (mput H m s) Q := by
  have hh := hg.1
  unfold hok at hh
  have inner : ∀ (left : Int) (k : Nat) (t b : Int), 0 ≤ t → t ≤ 300000 → 300000 - t ≤ k → mxr t (tkC (s 1) c t) b →
      (∀ t' k', t ≤ t' → t' ≤ 300000 → (if b ≤ t then t' = t else stR (s 1) c k' b t') → ∀ nx y, mnr t' (bgC (s 1) c) nx → zwp (zcall ztb (d + 3)) t_X6_gap Q 73 [some (zR m), some (zI c), none, some (zI what), some (zI t'), some (zI left), some (zI y), none] [zI nx] (mput H m s)) →
      zwp (zcall ztb (d + 3)) t_X6_gap Q 43 [some (zR m), some (zI c), none, some (zI what), some (zI t), some (zI left), some (zI b), none] [] (mput H m s) := by
    intro left k
    induction k with
    | zero =>
      intro t b h0 h1 h2 hm hP
      have hbl : b ≤ 300000 := by
        rcases hm.2.1 with e | e
        · omega
        · exact tkC_le hg e
      have hbt := hm.1
      apply bm_X6_gap_43 (d := d + 1) hM
      simp (disch := omega) only [zw_id]
      refine ⟨fun e => ?_, fun e => absurd e (by omega)⟩
      exact c_begins (d := d) hM hg hc (by omega) (fun nx hnx => hP t 0 (by omega) (by omega) (by rw [if_pos e]) nx b hnx)
    | succ k ih =>
      intro t b h0 h1 h2 hm hP
      have hbl : b ≤ 300000 := by
        rcases hm.2.1 with e | e
        · omega
        · exact tkC_le hg e
      have hbt := hm.1
      apply bm_X6_gap_43 (d := d + 1) hM
      simp (disch := omega) only [zw_id]
      refine ⟨fun e => ?_, fun e => ?_⟩
      · exact c_begins (d := d) hM hg hc (by omega) (fun nx hnx => hP t 0 (by omega) (by omega) (by rw [if_pos e]) nx b hnx)
      · refine c_takenTo (d := d) hM hg hc (by omega) (fun b' hb' => ?_)
        apply bm_X6_gap_61 (d := d + 1) hM
        refine ih b b' (by omega) (by omega) (by omega) hb' (fun t' k' q1 q2 q3 => hP t' (k' + 1) (by omega) q2 ?_)
        rw [if_neg e]
        exact ⟨b', hb', q3⟩
  have outer : ∀ (n : Nat) (t left : Int), 0 ≤ t → t ≤ 300000 → 300001 - t ≤ n → 0 ≤ left → left ≤ 2147483647 → (∀ n r, gpR (s 1) c what n t left r → Q [zI r] (mput H m s)) →
      zwp (zcall ztb (d + 3)) t_X6_gap Q 34 [some (zR m), some (zI c), none, some (zI what), some (zI t), some (zI left), none, none] [] (mput H m s) := by
    intro n
    induction n with
    | zero => intro t left h0 h1 h2; omega
    | succ n ih =>
      intro t left h0 h1 h2 h3 h4 hP
      apply bm_X6_gap_34 (d := d + 1) hM
      refine c_takenTo (d := d) hM hg hc (by omega) (fun b hb => ?_)
      apply bm_X6_gap_41 (d := d + 1) hM
      refine inner left 300000 t b h0 h1 (by omega) hb (fun t' k' q1 q2 q3 nx y hnx => ?_)
      have st : stR (s 1) c (k' + 1) t t' := ⟨b, hb, q3⟩
      have hnl : nx ≤ 300000 ∧ -1 ≤ nx ∧ (0 ≤ nx → t' < nx) := by
        rcases hnx with ⟨e, _⟩ | ⟨e, e2, _⟩
        · omega
        · exact ⟨bgC_le hg e2, by omega, fun _ => e⟩
      apply bm_X6_gap_73 (d := d + 1) hM
      simp (disch := omega) only [zw_id]
      refine ⟨fun e => ⟨fun e2 => ?_, fun e2 => ?_⟩, fun e => ⟨fun e2 => ⟨fun e3 => ?_, fun e3 => ?_⟩, fun e2 => ?_⟩⟩
      · refine ih nx (left - 1) (by omega) (by omega) (by omega) (by omega) (by omega) (fun n r hr => hP (n + 1) r ⟨t', nx, _, st, hnx, ?_⟩)
        rw [if_neg e, if_neg (by omega)]; exact hr
      · exact hP 1 (-2) ⟨t', nx, _, st, hnx, by rw [if_neg e, if_pos (by omega)]⟩
      · exact hP 1 (nx - t') ⟨t', nx, _, st, hnx, by rw [if_pos (by omega), if_neg e2, if_neg (by omega)]⟩
      · exact hP 1 (-2) ⟨t', nx, _, st, hnx, by rw [if_pos (by omega), if_neg e2, if_pos (by omega)]⟩
      · exact hP 1 t' ⟨t', nx, _, st, hnx, by rw [if_pos (by omega), if_pos (by omega)]⟩
  apply bm_X6_gap (d := d + 1) hM
  simp (disch := omega) only [zw_id]
  refine ⟨fun e => absurd e (by omega), fun _ => ⟨fun e => absurd e (by omega), fun _ => ⟨fun e => absurd e (by omega), fun _ => ⟨fun e => absurd e (by omega), fun _ => ⟨fun e => absurd e (by omega), fun _ => ?_⟩⟩⟩⟩⟩
  exact outer 300001 (s 1 0) i (by omega) (by omega) (by omega) (by omega) (by omega) h
/-- who is promised a column at a tick -/
def pmP (G : Nat → Int) (c : Nat) (t : Int) (j : Nat) : Bool := anyN (fun a => decide (0 ≤ G (96 + 32 * j + 9)) && promc G j a c && decide (G (96 + 32 * j + 9) ≤ t) && decide (t ≤ G (96 + 32 * j + 9) + G (96 + 32 * j + (16 + a)) - 1)) (G (96 + 32 * j + 4)).toNat
def pmF (G : Nat → Int) (c : Nat) (t : Int) : Int := firstN (pmP G c t) (G 1).toNat
theorem c_promised {d : Nat} {Q : ZQ} {H : ZH} {m : Nat} {s : MS} {c : Nat} {t : Int} (hM : MI H m) (hg : gok (s 1)) (hc : c < 16) (ht : s 1 0 ≤ t ∧ t ≤ 2147483647)
    (h : Q [zI (if pmF (s 1) c t < 0 then -2 else pmF (s 1) c t)] (mput H m s)) : zcall ztb (d + 3) mX6_promised [zR m, zI c, zI t] (mput H m s) Q := by
  have hh := hg.1
  unfold hok at hh
  have l21 : ∀ r j : Nat, (j : Int) + r = s 1 1 → firstN (pmP (s 1) c t) j = -1 →
      zwp (zcall ztb (d + 2)) t_X6_promised Q 21 [some (zR m), some (zI c), some (zI t), some (zI j), none, none] [] (mput H m s) := by
    intro r
    induction r with
    | zero =>
      intro j hj hf
      apply bm_X6_promised_21 hM
      simp (disch := omega) only [zw_id]
      refine ⟨fun _ => ?_, fun e => absurd e (by omega)⟩
      unfold pmF at h
      rw [show (s 1 1).toNat = j by omega, hf] at h; exact h
    | succ r ih =>
      intro j hj hf
      obtain ⟨b1, b2⟩ := hg.2.1 j (by omega)
      unfold jok at b1
      have l43 : ∀ q a : Nat, (a : Int) + q = s 1 (96 + 32 * j + 4) → anyN (fun a => decide (0 ≤ s 1 (96 + 32 * j + 9)) && promc (s 1) j a c && decide (s 1 (96 + 32 * j + 9) ≤ t) && decide (t ≤ s 1 (96 + 32 * j + 9) + s 1 (96 + 32 * j + (16 + a)) - 1)) a = false →
          zwp (zcall ztb (d + 2)) t_X6_promised Q 43 [some (zR m), some (zI c), some (zI t), some (zI j), some (zI (s 1 (96 + 32 * j + 9))), some (zI a)] [] (mput H m s) := by
        intro q
        induction q with
        | zero =>
          intro a ha hn
          apply bm_X6_promised_43 hM
          simp (disch := omega) only [zw_id, jx, Int.reduceToNat]
          refine ⟨by omega, fun _ => ih (j + 1) (by omega) (firstN_s hf ?_), fun e => absurd e (by omega)⟩
          unfold pmP
          rw [show (s 1 (96 + 32 * j + 4)).toNat = a by omega]; exact hn
        | succ q ih2 =>
          intro a ha hn
          have b2 := b2 a (by omega)
          unfold aok at b2
          have no : (decide (0 ≤ s 1 (96 + 32 * j + 9)) && promc (s 1) j a c && decide (s 1 (96 + 32 * j + 9) ≤ t) && decide (t ≤ s 1 (96 + 32 * j + 9) + s 1 (96 + 32 * j + (16 + a)) - 1)) = false → zwp (zcall ztb (d + 2)) t_X6_promised Q 43 [some (zR m), some (zI c), some (zI t), some (zI j), some (zI (s 1 (96 + 32 * j + 9))), some (zI (a + 1 : Nat))] [] (mput H m s) :=
            fun e => ih2 (a + 1) (by omega) (by rw [anyN, hn, e]; rfl)
          apply bm_X6_promised_43 hM
          simp (disch := omega) only [zw_id, jx, jxa, Int.reduceToNat]
          refine ⟨by omega, fun e => absurd e (by omega), fun _ => ⟨fun e => ?_, fun e => ⟨by omega, by omega, ?_⟩⟩⟩
          · refine ih (j + 1) (by omega) (firstN_s hf (anyN_none fun i _ => ?_))
            rw [decide_eq_false (by omega)]; rfl
          rw [cset_cov (by omega) (by omega) (by omega), csz1 hc]
          refine ⟨fun e3 => no (by unfold promc; simp [e3]), fun e3 => ⟨by omega, fun e4 => no (by simp; intros; omega), fun e4 => ⟨fun e5 => no (by simp; intros; omega), fun e5 => ?_⟩⟩⟩
          unfold pmF at h
          have hft := firstN_t hf (show pmP (s 1) c t j = true from anyN_iff.mpr ⟨a, by omega, by
            rw [decide_eq_true (show 0 ≤ s 1 (96 + 32 * j + 9) by omega), (show promc (s 1) j a c = true from Classical.not_not.mp e3), decide_eq_true (show s 1 (96 + 32 * j + 9) ≤ t by omega), decide_eq_true (show t ≤ s 1 (96 + 32 * j + 9) + s 1 (96 + 32 * j + (16 + a)) - 1 by omega)]; rfl⟩) r
          rw [show (s 1 1).toNat = j + 1 + r by omega, hft, if_neg (by omega)] at h
          exact h
      apply bm_X6_promised_21 hM
      simp (disch := omega) only [zw_id, jx, Int.reduceToNat]
      exact ⟨fun e => absurd e (by omega), fun _ => ⟨by omega, l43 (s 1 (96 + 32 * j + 4)).toNat 0 (by omega) rfl⟩⟩
  apply bm_X6_promised hM
  simp (disch := omega) only [zw_id]
  exact ⟨fun e => absurd e (by omega), fun _ => ⟨fun e => absurd e (by omega), fun _ => ⟨fun _ => l21 (s 1 1).toNat 0 (by omega) rfl, fun e => absurd ht.1 e⟩⟩⟩
