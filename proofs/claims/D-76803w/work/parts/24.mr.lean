/-! THE MODEL: what a pass does -/
/-- the same in what placing looks at -/
def psame (s s' : MS) : Prop := s 1 = s' 1 ∧ (s 0 109 = s' 0 109 ∧ s 0 110 = s' 0 110 ∧ s 0 114 = s' 0 114 ∧ s 0 115 = s' 0 115 ∧ s 0 116 = s' 0 116 ∧ s 0 117 = s' 0 117 ∧ s 0 118 = s' 0 118) ∧
  (∀ k : Nat, (k : Int) < s 0 110 → s 8 k = s' 8 k ∧ s 9 k = s' 9 k) ∧ ∀ k : Nat, (k : Int) < s 0 118 → s 11 k = s' 11 k ∧ s 12 k = s' 12 k
theorem anyN_congr {f g : Nat → Bool} : ∀ {n : Nat}, (∀ i, i < n → f i = g i) → anyN f n = anyN g n
  | 0, _ => rfl
  | n + 1, h => by rw [anyN, anyN, anyN_congr fun i hi => h i (by omega), h n (by omega)]
theorem bz_same {s s' : MS} (h : psame s s') : bz s = bz s' := by
  obtain ⟨h1, ⟨_, _, h3, h4, h5, h6, h7⟩, _, h8⟩ := h
  funext fr to acct c
  unfold bz bzJ bzA1 bzA2
  rw [h1, h3, h4, h5, h6]
  rw [show anyN (fun k => bzM s fr k c) (s 0 118).toNat = anyN (fun k => bzM s' fr k c) (s' 0 118).toNat by
    rw [← h7]; exact anyN_congr fun k hk => by unfold bzM; rw [(h8 k (by omega)).1, (h8 k (by omega)).2]]
theorem fnx_congr {w w' : Nat → Int} {pl : Nat → Bool} : ∀ {n : Nat}, (∀ a, a < n → w a = w' a) → fnx w pl n = fnx w' pl n
  | 0, _ => rfl
  | n + 1, h => by
    have e := fnx_congr (pl := pl) fun a ha => h a (Nat.lt_succ_of_lt ha)
    have b := fnx_b w' pl n
    rw [fnx, fnx, e]
    by_cases hx : fnx w' pl n < 0
    · by_cases hp : pl n = false
      · rw [if_pos ⟨hp, Or.inl hx⟩, if_pos ⟨hp, Or.inl hx⟩]
      · rw [if_neg (fun q => hp q.1), if_neg (fun q => hp q.1)]
    · rw [h n (by omega), h (fnx w' pl n).toNat (by omega)]
theorem fitS_same {s s' : MS} (h : psame s s') (t : Int) : ∀ n : Nat, (n : Int) ≤ s 0 110 → fitS s t n = fitS s' t n
  | 0, _ => rfl
  | n + 1, hn => by
    have hb := bz_same h
    have ih := fitS_same h t n (by omega)
    obtain ⟨h1, ⟨h2, h3, _⟩, h4, _⟩ := h
    have e := fnx_congr (w := s 8) (w' := s' 8) (pl := (fitS s' t n).2.1) (n := (s 0 110).toNat) fun a ha => (h4 a (by omega)).1
    have b := fnx_b (s' 8) (fitS s' t n).2.1 (s 0 110).toNat
    have hk := h4 (fnx (s' 8) (fitS s' t n).2.1 (s 0 110).toNat).toNat (by omega)
    rw [fitS, fitS, ih, hb, e, ← h2, ← h3, hk.1, hk.2]
theorem fitOK_same {s s' : MS} (h : psame s s') (h0 : 0 ≤ s 0 110) (t : Int) : fitOK s t = fitOK s' t ∧ fitF s t = fitF s' t := by
  have e := fitS_same h t (s 0 110).toNat (by omega)
  unfold fitOK fitF
  rw [← h.2.1.2.1, e]
  exact ⟨rfl, rfl⟩
theorem chg_same {s s' : MS} (h : psame s s') : chg s = chg s' := by
  obtain ⟨h1, ⟨h2, h3, _⟩, h4, _⟩ := h
  funext v
  have e1 : ∀ j, cJ s j v = cJ s' j v := fun j => by
    unfold cJ cA cK
    rw [h1, ← h3]
    refine congrArg (_ ∨ ·) (propext ⟨fun ⟨k, hk, q⟩ => ⟨k, hk, ?_⟩, fun ⟨k, hk, q⟩ => ⟨k, hk, ?_⟩⟩)
    · rw [← (h4 k (by omega)).2]; exact q
    · rw [(h4 k (by omega)).2]; exact q
  have e2 : ∀ x, cS s x v = cS s' x v := fun x => by
    unfold cS
    rw [h1, ← h3]
    refine congrArg (_ ∧ ·) (congrArg (_ ∨ ·) (propext ⟨fun ⟨k, hk, q⟩ => ⟨k, hk, ?_⟩, fun ⟨k, hk, q⟩ => ⟨k, hk, ?_⟩⟩))
    · rw [← (h4 k (by omega)).2]; exact q
    · rw [(h4 k (by omega)).2]; exact q
  unfold chg
  simp only [e1, e2, h1]
theorem fsR_same {s s' : MS} (h : psame s s') (h0 : 0 ≤ s 0 110) : ∀ n t r, fsR s n t r ↔ fsR s' n t r
  | 0, t, r => by rw [fsR, fsR, h.1]
  | n + 1, t, r => by
    rw [fsR, fsR, h.1, (fitOK_same h h0 t).1, chg_same h]
    split
    · exact Iff.rfl
    · split
      · exact Iff.rfl
      · exact ⟨fun ⟨b, q1, q2⟩ => ⟨b, q1, (fsR_same h h0 n b r).mp q2⟩, fun ⟨b, q1, q2⟩ => ⟨b, q1, (fsR_same h h0 n b r).mpr q2⟩⟩
/-- the first tick, as a number -/
noncomputable def fstV (s : MS) (t : Int) : Int := Classical.epsilon (fun r => fsR s 300000 t r)
theorem fstV_eq {s : MS} {t r : Int} (h : fsR s 300000 t r) : fstV s t = r := fsR_u s _ _ _ _ (Classical.epsilon_spec (p := fun r => fsR s 300000 t r) ⟨r, h⟩) h
theorem mnr_ex (t : Int) (P : Int → Prop) : ∃ b, mnr t P b := by
  by_cases h : ∃ n : Nat, P (t + 1 + n)
  · have key : ∀ n : Nat, P (t + 1 + n) → ∃ k : Nat, P (t + 1 + k) ∧ ∀ i : Nat, P (t + 1 + i) → k ≤ i := by
      intro n
      induction n using Nat.strongRecOn with
      | ind n ih =>
        intro hn
        by_cases q : ∃ i, i < n ∧ P (t + 1 + (i : Nat))
        · obtain ⟨i, q1, q2⟩ := q; exact ih i q1 q2
        · exact ⟨n, hn, fun i hi => by
            cases Nat.lt_or_ge i n with
            | inl l => exact absurd ⟨i, l, hi⟩ q
            | inr l => exact l⟩
    obtain ⟨n, hn⟩ := h
    obtain ⟨k, k1, k2⟩ := key n hn
    refine ⟨t + 1 + k, Or.inr ⟨by omega, k1, fun v hv hv2 => ?_⟩⟩
    have := k2 (v - (t + 1)).toNat (by rw [show t + 1 + ((v - (t + 1)).toNat : Int) = v by omega]; exact hv)
    omega
  · refine ⟨-1, Or.inl ⟨rfl, fun v hv => ?_⟩⟩
    cases Int.lt_or_le t v with
    | inr l => exact l
    | inl l => exact absurd ⟨(v - (t + 1)).toNat, by rw [show t + 1 + ((v - (t + 1)).toNat : Int) = v by omega]; exact hv⟩ h
theorem fsR_ex (s : MS) : ∀ (n : Nat) (t : Int), t < 0 ∨ s 1 0 + 20001 - t ≤ n → ∃ r, fsR s n t r ∧ (r = -1 ∨ fitOK s r = true ∧ 0 ≤ r ∧ r ≤ s 1 0 + 20000 ∧ t ≤ r)
  | 0, t, h => ⟨-1, ⟨by omega, rfl⟩, Or.inl rfl⟩
  | n + 1, t, h => by
    by_cases h1 : t < 0 ∨ s 1 0 + 20000 < t
    · exact ⟨-1, by rw [fsR, if_pos h1], Or.inl rfl⟩
    · by_cases h2 : fitOK s t = true
      · exact ⟨t, by rw [fsR, if_neg h1, if_pos h2], Or.inr ⟨h2, by omega, by omega, by omega⟩⟩
      · obtain ⟨b, hb⟩ := mnr_ex t (chg s)
        obtain ⟨r, r1, r2⟩ := fsR_ex s n b (by rcases hb with ⟨q, _⟩ | ⟨q, _⟩ <;> omega)
        refine ⟨r, by rw [fsR, if_neg h1, if_neg h2]; exact ⟨b, hb, r1⟩, ?_⟩
        rcases r2 with r2 | ⟨r2, r3, r4, r5⟩
        · exact Or.inl r2
        · refine Or.inr ⟨r2, r3, r4, ?_⟩
          rcases hb with ⟨q, _⟩ | ⟨q, _⟩
          · cases n with
            | zero => have := r1.2; omega
            | succ n => rw [fsR, if_pos (by omega)] at r1; omega
          · omega
theorem fstV_r {s : MS} {t : Int} (h : 0 ≤ t) (hn : s 1 0 ≤ 200000) : fsR s 300000 t (fstV s t) ∧ (fstV s t = -1 ∨ fitOK s (fstV s t) = true ∧ 0 ≤ fstV s t ∧ fstV s t ≤ s 1 0 + 20000 ∧ t ≤ fstV s t) := by
  obtain ⟨r, r1, r2⟩ := fsR_ex s 300000 t (by omega)
  rw [fstV_eq r1]
  exact ⟨r1, r2⟩
theorem fitS_f {s : MS} {t : Int} (ha : amok s) : ∀ n : Nat, (n : Int) ≤ s 0 110 → ∀ a, (fitS s t n).2.1 a = true → 0 ≤ (fitS s t n).2.2.1 a ∧ (fitS s t n).2.2.1 a + s 8 a ≤ 16
  | 0, _, a, h => by cases h
  | n + 1, hn, a, h => by
    have ih := fitS_f (t := t) ha n (by omega) a
    rw [fitS] at h ⊢
    split
    · next e => rw [if_pos e] at h; exact ih h
    · next e =>
      rw [if_neg e] at h
      split
      · next e2 => rw [if_pos e2] at h; exact ih h
      · next e2 =>
        rw [if_neg e2] at h
        dsimp only at h ⊢
        have hp := plc_r (fun c => bz s t (t + s 9 (fnx (s 8) (fitS s t n).2.1 (s 0 110).toNat).toNat) (s 0 109) c || (fitS s t n).1 c) (s 8 (fnx (s 8) (fitS s t n).2.1 (s 0 110).toNat).toNat)
        unfold zupd
        split
        · next e3 => rw [e3]; omega
        · next e3 => exact ih (by simpa [e3] using h)
theorem fitF_r {s : MS} {t : Int} (ha : amok s) (h : fitOK s t = true) {a : Nat} (hn : (a : Int) < s 0 110) : 0 ≤ fitF s t a ∧ fitF s t a + s 8 a ≤ 16 := by
  have h0 := ha.2.1
  have hc := (fitS_cnt (s := s) (t := t) (s 0 110).toNat (by omega) h).1
  exact fitS_f ha (s 0 110).toNat (by omega) a (cntN_full hc a (by omega))
/-- nothing is as if it were not there -/
def rest (s : MS) : Prop := s 0 114 = -1 ∧ s 0 115 = -1 ∧ s 0 116 = -1 ∧ s 0 117 = -1 ∧ s 0 118 = 0
/-- the plain state of a row -/
def cm (G : Nat → Int) : MS := fun k => if k = 1 then G else if k = 0 then (fun i => if 114 ≤ i ∧ i < 118 then -1 else 0) else fun _ => 0
theorem cm_1 (G : Nat → Int) : cm G 1 = G := rfl
theorem cm_rest (G : Nat → Int) : rest (cm G) := ⟨rfl, rfl, rfl, rfl, rfl⟩
theorem rest_sk {s : MS} (h : rest s) : skok s := by
  unfold skok
  obtain ⟨h1, h2, h3, h4, h5⟩ := h
  rw [h1, h2, h3, h4, h5]
  exact ⟨by omega, by omega, by omega, by omega, by omega, fun k hk => by omega⟩
theorem tkS_1 (s : MS) (j : Nat) : tkS s j 1 = s 1 := rfl
theorem tkS_k (s : MS) (j i : Nat) (h : i ≠ 109) (h2 : i ≠ 110) : tkS s j 0 i = s 0 i := by
  unfold tkS
  rw [msn (by omega), msn (by omega), mse, udn h2, udn h]
theorem tkS_109 (s : MS) (j : Nat) : tkS s j 0 109 = s 1 (96 + 32 * j) := by
  unfold tkS
  rw [msn (by omega), msn (by omega), mse, udn (by omega), ude]
theorem tkS_110 (s : MS) (j : Nat) : tkS s j 0 110 = s 1 (96 + 32 * j + 4) := by
  unfold tkS
  rw [msn (by omega), msn (by omega), mse, ude]
theorem tkS_8 (s : MS) (j : Nat) {a : Nat} (h : (a : Int) < s 1 (96 + 32 * j + 4)) : tkS s j 8 a = s 1 (96 + 32 * j + (12 + a)) := by
  unfold tkS
  rw [msn (by omega), mse, if_pos h]
theorem tkS_9 (s : MS) (j : Nat) {a : Nat} (h : (a : Int) < s 1 (96 + 32 * j + 4)) : tkS s j 9 a = s 1 (96 + 32 * j + (16 + a)) := by
  unfold tkS
  rw [mse, if_pos h]
theorem tkS_am {s : MS} {j : Nat} (hg : gok (s 1)) (hj : (j : Int) < s 1 1) : amok (tkS s j) := by
  obtain ⟨hj1, hA⟩ := hg.2.1 j hj
  unfold jok at hj1
  unfold amok
  rw [tkS_109, tkS_110]
  refine ⟨by omega, by omega, fun k hk => ?_⟩
  have := hA k hk
  unfold aok at this
  rw [tkS_8 s j hk, tkS_9 s j hk]
  omega
theorem tkS_rest {s : MS} {j : Nat} (h : rest s) : rest (tkS s j) := by
  unfold rest
  rw [tkS_k _ _ _ (by omega) (by omega), tkS_k _ _ _ (by omega) (by omega), tkS_k _ _ _ (by omega) (by omega), tkS_k _ _ _ (by omega) (by omega), tkS_k _ _ _ (by omega) (by omega)]
  exact h
theorem tk_same {s s' : MS} {j : Nat} (h : rest s) (h' : rest s') (e : s 1 = s' 1) : psame (tkS s j) (tkS s' j) := by
  obtain ⟨a1, a2, a3, a4, a5⟩ := h
  obtain ⟨b1, b2, b3, b4, b5⟩ := h'
  unfold psame
  rw [tkS_1, tkS_1, tkS_109, tkS_109, tkS_110, tkS_110, tkS_k _ _ _ (by omega) (by omega), tkS_k _ _ _ (by omega) (by omega), tkS_k _ _ _ (by omega) (by omega), tkS_k _ _ _ (by omega) (by omega), tkS_k _ _ _ (by omega) (by omega),
    tkS_k _ _ _ (by omega) (by omega), tkS_k _ _ _ (by omega) (by omega), tkS_k _ _ _ (by omega) (by omega), tkS_k _ _ _ (by omega) (by omega), tkS_k _ _ _ (by omega) (by omega), a1, a2, a3, a4, a5, b1, b2, b3, b4, b5, e]
  refine ⟨rfl, ⟨rfl, rfl, rfl, rfl, rfl, rfl, rfl⟩, fun k hk => ?_, fun k hk => by omega⟩
  rw [tkS_8 s j (by rw [e]; exact hk), tkS_9 s j (by rw [e]; exact hk), tkS_8 s' j hk, tkS_9 s' j hk, e]
  exact ⟨rfl, rfl⟩
theorem stA_congr {G : Nat → Int} {j : Nat} {f f' ask ask' : Nat → Int} {n : Nat} (h : ∀ a, a < n → f a = f' a ∧ ask a = ask' a) : stA G j f ask n = stA G j f' ask' n := by
  funext i
  unfold stA
  by_cases h3 : 96 + 32 * j + 20 ≤ i ∧ i < 96 + 32 * j + 20 + n
  · rw [if_pos h3, if_pos h3, (h _ (by omega)).1]
  · rw [if_neg h3, if_neg h3]
    by_cases h4 : 96 + 32 * j + 24 ≤ i ∧ i < 96 + 32 * j + 24 + n
    · rw [if_pos h4, if_pos h4, (h _ (by omega)).2]
    · rw [if_neg h4, if_neg h4]
theorem prA_congr {G : Nat → Int} {j : Nat} {t : Int} {f f' : Nat → Int} {n : Nat} (h : ∀ a, a < n → f a = f' a) : prA G j t f n = prA G j t f' n := by
  funext i
  unfold prA
  by_cases h3 : 96 + 32 * j + 28 ≤ i ∧ i < 96 + 32 * j + 28 + n
  · rw [if_pos h3, if_pos h3, h _ (by omega)]
  · rw [if_neg h3, if_neg h3]
def armd (G : Nat → Int) (j : Nat) : Nat := (G (96 + 32 * j + 4)).toNat
def askd (G : Nat → Int) (j : Nat) : Nat → Int := fun a => G (96 + 32 * j + (16 + a))
/-- promises are given up -/
def clG (G : Nat → Int) (n : Nat) : Nat → Int := fun i => if 96 ≤ i ∧ i < 96 + 32 * n ∧ (i - 96) % 32 = 9 then -1 else G i
/-- the row, the sums, how many started, how many promises, how many more are looked at -/
abbrev PS : Type := (Nat → Int) × (Nat → Int) × Int × Int × Int
noncomputable def psJ (B : Nat → Int) (G U : Nat → Int) (st md l : Int) (j : Nat) : PS :=
  if fitOK (tkS (cm G) j) (G 0) = true then (stG G j (fitF (tkS (cm G) j) (G 0)) (askd G j) (armd G j), zupd (stU G U j) 12 (stU G U j 12 + (if l < 0 then 0 else 1)), st + 1, md, l)
  else if md < G 2 ∧ 0 ≤ fstV (tkS (cm G) j) (G 0 + 1) then (prG G j (B j) (fstV (tkS (cm G) j) (G 0 + 1)) (fitF (tkS (cm G) j) (fstV (tkS (cm G) j) (G 0 + 1))) (armd G j), U, st, md + 1, if l < 0 then G 3 else l)
  else (G, U, st, md, if l < 0 then G 3 else l)
noncomputable def psStep (B : Nat → Int) (j : Nat) (p : PS) : PS :=
  if p.2.2.2.2 = 0 ∨ p.1 (16 + (p.1 (96 + 32 * j)).toNat) < colsF p.1 j + heldF p.1 (p.1 (96 + 32 * j)) then p
  else psJ B p.1 p.2.1 p.2.2.1 p.2.2.2.1 (if 0 < p.2.2.2.2 then p.2.2.2.2 - 1 else p.2.2.2.2) j
noncomputable def psF (B : Nat → Int) (L : Nat → Nat) (p : PS) : Nat → PS
  | 0 => p
  | i + 1 => psStep B (L i) (psF B L p i)
noncomputable def passF (G U : Nat → Int) : PS :=
  psF (fun j => G (96 + 32 * j + 9)) (lnF (clG G (G 1).toNat) (zupd U 15 (U 15 + 1)) (G 1).toNat).1 (clG G (G 1).toNat, zupd U 15 (U 15 + 1), 0, 0, -1) (lnF (clG G (G 1).toNat) (zupd U 15 (U 15 + 1)) (G 1).toNat).2
/-- who has started -/
def stk (G : Nat → Int) : Prop := G 6 = sumN (fun j => if 0 ≤ G (96 + 32 * j + 6) then 1 else 0) (G 1).toNat ∧ (∀ j : Nat, (j : Int) < G 1 → G (96 + 32 * j + 5) = 0 → G (96 + 32 * j + 6) = -1) ∧
  ∀ k : Nat, (k : Int) < G 6 → 0 ≤ G (2656 + k) ∧ G (2656 + k) < G 1
theorem sumN_lt {f : Nat → Int} {j : Nat} : ∀ {n : Nat}, (∀ i, i < n → f i ≤ 1) → j < n → f j = 0 → sumN f n ≤ n - 1
  | 0, _, hj, _ => absurd hj (by omega)
  | n + 1, h, hj, h0 => by
    rw [sumN]
    have hn := h n (by omega)
    by_cases e : j = n
    · subst e
      have : ∀ n : Nat, (∀ i, i < n → f i ≤ 1) → sumN f n ≤ n := fun n => by
        induction n with
        | zero => intro _; simp [sumN]
        | succ n ih => intro h; have := ih fun i hi => h i (by omega); have := h n (by omega); rw [sumN]; omega
      have := this j fun i hi => h i (by omega)
      omega
    · have := sumN_lt (n := n) (fun i hi => h i (by omega)) (by omega) h0
      omega
theorem sumN_upd {f g : Nat → Int} {j : Nat} : ∀ {n : Nat}, (∀ i, i < n → i ≠ j → g i = f i) → j < n → sumN g n = sumN f n - f j + g j
  | 0, _, hj => absurd hj (by omega)
  | n + 1, h, hj => by
    rw [sumN, sumN]
    by_cases e : j = n
    · subst e
      rw [sumN_congr fun i hi => h i (by omega) (by omega)]; omega
    · rw [sumN_upd (n := n) (fun i hi => h i (by omega)) (by omega), h n (by omega) (fun q => e q.symm)]; omega
theorem stk_6 {G : Nat → Int} (h : stk G) (hg : gok G) {j : Nat} (hj : (j : Int) < G 1) (hw : G (96 + 32 * j + 5) = 0) : G 6 < G 1 := by
  have h1 := h.2.1 j hj hw
  have h2 := sumN_lt (f := fun j => if 0 ≤ G (96 + 32 * j + 6) then (1 : Int) else 0) (j := j) (n := (G 1).toNat) (fun i _ => by split <;> omega) (by omega) (by rw [if_neg (by omega)])
  have h3 := h.1
  have := hg.1
  unfold hok at this
  omega
theorem jok_c {G G' : Nat → Int} {k : Nat} (e : ∀ w, w < 32 → G' (96 + 32 * k + w) = G (96 + 32 * k + w)) (h : jok G k) : jok G' k := by
  have e0 : G' (96 + 32 * k) = G (96 + 32 * k) := e 0 (by omega)
  unfold jok at h ⊢
  rw [e0, e 1 (by omega), e 2 (by omega), e 3 (by omega), e 4 (by omega), e 5 (by omega), e 6 (by omega), e 7 (by omega), e 8 (by omega), e 9 (by omega), e 10 (by omega), e 11 (by omega)]
  exact h
theorem aok_c {G G' : Nat → Int} {k a : Nat} (ha : a < 4) (e : ∀ w, w < 32 → G' (96 + 32 * k + w) = G (96 + 32 * k + w)) (h : aok G k a) : aok G' k a := by
  unfold aok at h ⊢
  rw [e (12 + a) (by omega), e (16 + a) (by omega), e (20 + a) (by omega), e (24 + a) (by omega), e (28 + a) (by omega), e 5 (by omega), e 9 (by omega)]
  exact h
theorem sok_c {G G' : Nat → Int} {x : Nat} (e : ∀ w, w < 6 → G' (24 + 6 * x + w) = G (24 + 6 * x + w)) (h : sok G x) : sok G' x := by
  have e0 : G' (24 + 6 * x) = G (24 + 6 * x) := e 0 (by omega)
  unfold sok at h ⊢
  rw [e0, e 1 (by omega), e 2 (by omega), e 3 (by omega), e 4 (by omega), e 5 (by omega)]
  exact h
theorem gok_job {G G' : Nat → Int} (hg : gok G) (j : Nat) (h1 : ∀ i, i < 96 → i ≠ 6 → i ≠ 7 → G' i = G i) (h6 : 0 ≤ G' 6 ∧ G' 6 ≤ 80) (h7 : 0 ≤ G' 7 ∧ G' 7 ≤ 60)
    (h2 : ∀ k w : Nat, (k : Int) < G 1 → k ≠ j → w < 32 → G' (96 + 32 * k + w) = G (96 + 32 * k + w)) (h3 : (j : Int) < G 1 → jok G' j ∧ ∀ a : Nat, (a : Int) < G' (96 + 32 * j + 4) → aok G' j a) : gok G' := by
  have hh := hg.1
  refine ⟨?_, fun k hk => ?_, fun x hx => sok_c (fun w hw => h1 _ (by omega) (by omega) (by omega)) (hg.2.2 x hx)⟩
  · unfold hok at hh ⊢
    rw [h1 0 (by omega) (by omega) (by omega), h1 1 (by omega) (by omega) (by omega), h1 2 (by omega) (by omega) (by omega), h1 3 (by omega) (by omega) (by omega), h1 4 (by omega) (by omega) (by omega), h1 5 (by omega) (by omega) (by omega)]
    obtain ⟨a0, a1, a2, a3, a4, a5, _, _, a8⟩ := hh
    refine ⟨a0, a1, a2, a3, a4, a5, h6, h7, fun a ha => ?_⟩
    rw [h1 (8 + a) (by omega) (by omega) (by omega), h1 (16 + a) (by omega) (by omega) (by omega)]
    exact a8 a ha
  · rw [h1 1 (by omega) (by omega) (by omega)] at hk
    by_cases e : k = j
    · subst e; exact h3 hk
    · obtain ⟨b1, b2⟩ := hg.2.1 k hk
      have b1' := b1
      unfold jok at b1'
      refine ⟨jok_c (fun w hw => h2 k w hk e hw) b1, fun a ha => ?_⟩
      rw [h2 k 4 hk e (by omega)] at ha
      exact aok_c (by omega) (fun w hw => h2 k w hk e hw) (b2 a ha)
/-! THE MODEL: passes -/
theorem lnF_inj (G U : Nat → Int) : ∀ n i i', i < (lnF G U n).2 → i' < (lnF G U n).2 → (lnF G U n).1 i = (lnF G U n).1 i' → i = i'
  | 0, i, i', h, _, _ => absurd h (by simp [lnF])
  | j + 1, i, i', h, h', e => by
    obtain ⟨b1, b2⟩ := lnF_b G U j
    have ih := lnF_inj G U j
    rw [lnF] at h h' e
    split at h
    · next c =>
      rw [if_pos c] at h' e
      dsimp only at h h' e
      have hp := insP_le (ahd G U j) (lnF G U j).1 (lnF G U j).2
      unfold insA at e
      have key : ∀ i, i < (lnF G U j).2 + 1 → ¬ i = insP (ahd G U j) (lnF G U j).1 (lnF G U j).2 → ∃ q, q < (lnF G U j).2 ∧ (if i < insP (ahd G U j) (lnF G U j).1 (lnF G U j).2 then (lnF G U j).1 i else if i = insP (ahd G U j) (lnF G U j).1 (lnF G U j).2 then j else (lnF G U j).1 (i - 1)) = (lnF G U j).1 q ∧ (q = i ∧ i < insP (ahd G U j) (lnF G U j).1 (lnF G U j).2 ∨ q + 1 = i ∧ insP (ahd G U j) (lnF G U j).1 (lnF G U j).2 < i) := by
        intro i hi hne
        by_cases hlt : i < insP (ahd G U j) (lnF G U j).1 (lnF G U j).2
        · exact ⟨i, by omega, by rw [if_pos hlt], Or.inl ⟨rfl, hlt⟩⟩
        · exact ⟨i - 1, by omega, by rw [if_neg hlt, if_neg hne], Or.inr ⟨by omega, by omega⟩⟩
      have self : ∀ i, i = insP (ahd G U j) (lnF G U j).1 (lnF G U j).2 → (if i < insP (ahd G U j) (lnF G U j).1 (lnF G U j).2 then (lnF G U j).1 i else if i = insP (ahd G U j) (lnF G U j).1 (lnF G U j).2 then j else (lnF G U j).1 (i - 1)) = j := fun i hi => by
        rw [if_neg (by omega), if_pos hi]
      by_cases hi : i = insP (ahd G U j) (lnF G U j).1 (lnF G U j).2
      · by_cases hi' : i' = insP (ahd G U j) (lnF G U j).1 (lnF G U j).2
        · omega
        · obtain ⟨q, q1, q2, _⟩ := key i' h' hi'
          rw [self i hi, q2] at e
          have := (b2 q q1).1; omega
      · obtain ⟨q, q1, q2, q3⟩ := key i h hi
        by_cases hi' : i' = insP (ahd G U j) (lnF G U j).1 (lnF G U j).2
        · rw [q2, self i' hi'] at e
          have := (b2 q q1).1; omega
        · obtain ⟨q', q1', q2', q3'⟩ := key i' h' hi'
          rw [q2, q2'] at e
          have := ih q q' q1 q1' e
          omega
    · next c =>
      rw [if_neg c] at h' e
      exact ih i i' h h' e
theorem clG_o {G : Nat → Int} {n i : Nat} (h : ¬ (96 ≤ i ∧ i < 96 + 32 * n ∧ (i - 96) % 32 = 9)) : clG G n i = G i := if_neg h
theorem clG_s (G : Nat → Int) (n : Nat) : clG G (n + 1) = zupd (clG G n) (96 + 32 * n + 9) (-1) := by
  funext i
  unfold clG zupd
  by_cases e : i = 96 + 32 * n + 9
  · rw [if_pos (by omega), if_pos e]
  · rw [if_neg e]
    dsimp only
    by_cases h : 96 ≤ i ∧ i < 96 + 32 * n ∧ (i - 96) % 32 = 9
    · rw [if_pos h, if_pos (by omega)]
    · rw [if_neg h, if_neg (by omega)]
theorem clG_gok {G : Nat → Int} (hg : gok G) : gok (clG G (G 1).toNat) := by
  have hh := hg.1
  have o : ∀ i, i < 96 → clG G (G 1).toNat i = G i := fun i h => clG_o (by omega)
  refine ⟨?_, fun k hk => ?_, fun x hx => sok_c (fun w hw => o _ (by omega)) (hg.2.2 x hx)⟩
  · unfold hok at hh ⊢
    rw [o 0 (by omega), o 1 (by omega), o 2 (by omega), o 3 (by omega), o 4 (by omega), o 5 (by omega), o 6 (by omega), o 7 (by omega)]
    obtain ⟨a0, a1, a2, a3, a4, a5, a6, a7, a8⟩ := hh
    refine ⟨a0, a1, a2, a3, a4, a5, a6, a7, fun a ha => ?_⟩
    rw [o (8 + a) (by omega), o (16 + a) (by omega)]
    exact a8 a ha
  · rw [o 1 (by omega)] at hk
    obtain ⟨b1, b2⟩ := hg.2.1 k hk
    have e : ∀ w, w < 32 → w ≠ 9 → clG G (G 1).toNat (96 + 32 * k + w) = G (96 + 32 * k + w) := fun w hw h9 => clG_o (by omega)
    have e0 : clG G (G 1).toNat (96 + 32 * k) = G (96 + 32 * k) := e 0 (by omega) (by omega)
    have e9 : clG G (G 1).toNat (96 + 32 * k + 9) = -1 := if_pos (by omega)
    refine ⟨?_, fun a ha => ?_⟩
    · unfold jok at b1 ⊢
      rw [e0, e 1 (by omega) (by omega), e 2 (by omega) (by omega), e 3 (by omega) (by omega), e 4 (by omega) (by omega), e 5 (by omega) (by omega), e 6 (by omega) (by omega), e 7 (by omega) (by omega), e 8 (by omega) (by omega), e9, e 10 (by omega) (by omega), e 11 (by omega) (by omega)]
      omega
    · rw [e 4 (by omega) (by omega)] at ha
      have b2 := b2 a ha
      unfold jok at b1
      unfold aok at b2 ⊢
      rw [e (12 + a) (by omega) (by omega), e (16 + a) (by omega) (by omega), e (20 + a) (by omega) (by omega), e (24 + a) (by omega) (by omega), e (28 + a) (by omega) (by omega), e 5 (by omega) (by omega), e9]
      omega
theorem stk_c {G G' : Nat → Int} (h : stk G) (h1 : G' 1 = G 1) (h6 : G' 6 = G 6) (hj : ∀ j : Nat, (j : Int) < G 1 → G' (96 + 32 * j + 5) = G (96 + 32 * j + 5) ∧ G' (96 + 32 * j + 6) = G (96 + 32 * j + 6)) (hl : ∀ k : Nat, (k : Int) < G 6 → G' (2656 + k) = G (2656 + k)) : stk G' := by
  obtain ⟨a1, a2, a3⟩ := h
  unfold stk
  rw [h1, h6]
  refine ⟨?_, fun j hj1 => ?_, fun k hk => ?_⟩
  · rw [a1]; exact sumN_congr fun j hj2 => by rw [(hj j (by omega)).2]
  · rw [(hj j hj1).1, (hj j hj1).2]; exact a2 j hj1
  · rw [hl k hk]; exact a3 k hk
/-- the row after a job's start, by parts -/
theorem stG_o {G : Nat → Int} {j : Nat} {f ask : Nat → Int} {n i : Nat} (hg : gok G) (hj : (j : Int) < G 1) (hn : n ≤ 4) (h6 : 0 ≤ G 6) (h : i < 6 ∨ 8 ≤ i ∧ i < 96 + 32 * j + 5 ∨ 96 + 32 * j + 7 ≤ i ∧ i < 96 + 32 * j + 20 ∨ 96 + 32 * j + 28 ≤ i ∧ i < 2656 + (G 6).toNat ∨ 2916 ≤ i) (h8 : G 6 < 80) :
    stG G j f ask n i = G i := by
  have hh := hg.1
  unfold hok at hh
  have b7 : 0 ≤ stA G j f ask n 7 ∧ stA G j f ask n 7 ≤ 60 := by rw [stA_o (by omega) (by omega)]; omega
  unfold stG
  rw [udn (by omega), udn (by omega), evF_o b7 (by omega), stA_o (by omega) (by omega)]
theorem stG_j {G : Nat → Int} {j : Nat} {f ask : Nat → Int} {n : Nat} (hg : gok G) (hj : (j : Int) < G 1) (hn : n ≤ 4) (h6 : 0 ≤ G 6) (h8 : G 6 < 80) :
    stG G j f ask n (96 + 32 * j + 5) = 1 ∧ stG G j f ask n (96 + 32 * j + 6) = G 0 ∧ (∀ a, a < 4 → stG G j f ask n (96 + 32 * j + (20 + a)) = if a < n then f a else G (96 + 32 * j + (20 + a))) ∧
    (∀ a, a < 4 → stG G j f ask n (96 + 32 * j + (24 + a)) = if a < n then G 0 + min (ask a) (lastsF G j a) else G (96 + 32 * j + (24 + a))) ∧ stG G j f ask n 6 = G 6 + 1 ∧ (0 ≤ stG G j f ask n 7 ∧ stG G j f ask n 7 ≤ 60) ∧ stG G j f ask n (2656 + (G 6).toNat) = j := by
  have hh := hg.1
  unfold hok at hh
  have b7 : 0 ≤ stA G j f ask n 7 ∧ stA G j f ask n 7 ≤ 60 := by rw [stA_o (by omega) (by omega)]; omega
  have e7 := evF_7 b7 (kind := 1) (j := j)
  have e : ∀ i, 96 ≤ i → i < 2656 → stG G j f ask n i = stA G j f ask n i := fun i h1 h2 => by
    unfold stG; rw [udn (by omega), udn (by omega), evF_o b7 (by omega)]
  refine ⟨?_, ?_, fun a ha => ?_, fun a ha => ?_, ?_, ?_, ?_⟩
  · rw [e _ (by omega) (by omega)]; unfold stA; rw [if_pos rfl]
  · rw [e _ (by omega) (by omega)]; unfold stA; rw [if_neg (by omega), if_pos rfl]
  · rw [e _ (by omega) (by omega)]; unfold stA
    rw [if_neg (by omega), if_neg (by omega)]
    by_cases han : a < n
    · rw [if_pos (by omega), if_pos han, show 96 + 32 * j + (20 + a) - (96 + 32 * j + 20) = a by omega]
    · rw [if_neg (by omega), if_neg (by omega), if_neg han]
  · rw [e _ (by omega) (by omega)]; unfold stA
    rw [if_neg (by omega), if_neg (by omega), if_neg (by omega)]
    by_cases han : a < n
    · rw [if_pos (by omega), if_pos han, show 96 + 32 * j + (24 + a) - (96 + 32 * j + 24) = a by omega]
    · rw [if_neg (by omega), if_neg han]
  · unfold stG; rw [ude]
  · unfold stG; rw [udn (by omega), udn (by omega)]; exact e7
  · unfold stG; rw [udn (by omega), ude]
theorem stG_gok {G : Nat → Int} {j : Nat} {f : Nat → Int} (hg : gok G) (hj : (j : Int) < G 1) (h8 : G 6 < 80) (hf : ∀ a : Nat, (a : Int) < G (96 + 32 * j + 4) → 0 ≤ f a ∧ f a + G (96 + 32 * j + (12 + a)) ≤ 16) :
    gok (stG G j f (askd G j) (armd G j)) := by
  have hh := hg.1
  unfold hok at hh
  obtain ⟨b1, b2⟩ := hg.2.1 j hj
  unfold jok at b1
  have hn : armd G j ≤ 4 := by unfold armd; omega
  have o : ∀ i, (i < 6 ∨ 8 ≤ i ∧ i < 96 + 32 * j + 5 ∨ 96 + 32 * j + 7 ≤ i ∧ i < 96 + 32 * j + 20 ∨ 96 + 32 * j + 28 ≤ i ∧ i < 2656 + (G 6).toNat ∨ 2916 ≤ i) → stG G j f (askd G j) (armd G j) i = G i := fun i h => stG_o hg hj hn (by omega) h h8
  obtain ⟨j5, j6, j20, j24, g6, g7, _⟩ := stG_j (f := f) (ask := askd G j) hg hj hn (by omega) h8
  refine gok_job hg j (fun i h1 h2 h3 => o i (by omega)) (by rw [g6]; omega) g7 (fun k w hk hkj hw => o _ (by omega)) (fun _ => ⟨?_, fun a ha => ?_⟩)
  · unfold jok
    rw [o (96 + 32 * j) (by omega), o (96 + 32 * j + 1) (by omega), o (96 + 32 * j + 2) (by omega), o (96 + 32 * j + 3) (by omega), o (96 + 32 * j + 4) (by omega), j5, j6, o (96 + 32 * j + 7) (by omega), o (96 + 32 * j + 8) (by omega), o (96 + 32 * j + 9) (by omega), o (96 + 32 * j + 10) (by omega), o (96 + 32 * j + 11) (by omega)]
    omega
  · rw [o (96 + 32 * j + 4) (by omega)] at ha
    have b2 := b2 a ha
    have hf := hf a ha
    unfold aok at b2 ⊢
    rw [o (96 + 32 * j + (12 + a)) (by omega), o (96 + 32 * j + (16 + a)) (by omega), j20 a (by omega), j24 a (by omega), o (96 + 32 * j + (28 + a)) (by omega), j5, o (96 + 32 * j + 9) (by omega)]
    have : a < armd G j := by unfold armd; omega
    rw [if_pos this, if_pos this]
    have ml : 1 ≤ lastsF G j a := by unfold lastsF; omega
    unfold askd
    omega
theorem stG_stk {G : Nat → Int} {j : Nat} {f : Nat → Int} (hg : gok G) (hs : stk G) (hj : (j : Int) < G 1) (hw : G (96 + 32 * j + 5) = 0) : stk (stG G j f (askd G j) (armd G j)) := by
  have hh := hg.1
  unfold hok at hh
  obtain ⟨b1, b2⟩ := hg.2.1 j hj
  unfold jok at b1
  have h6 := stk_6 hs hg hj hw
  have hn : armd G j ≤ 4 := by unfold armd; omega
  have o : ∀ i, (i < 6 ∨ 8 ≤ i ∧ i < 96 + 32 * j + 5 ∨ 96 + 32 * j + 7 ≤ i ∧ i < 96 + 32 * j + 20 ∨ 96 + 32 * j + 28 ≤ i ∧ i < 2656 + (G 6).toNat ∨ 2916 ≤ i) → stG G j f (askd G j) (armd G j) i = G i := fun i h => stG_o hg hj hn (by omega) h (by omega)
  obtain ⟨j5, j6, _, _, g6, g7, gl⟩ := stG_j (f := f) (ask := askd G j) hg hj hn (by omega) (by omega)
  obtain ⟨a1, a2, a3⟩ := hs
  have hst := a2 j hj hw
  unfold stk
  rw [o 1 (by omega), g6]
  refine ⟨?_, fun k hk h5 => ?_, fun k hk => ?_⟩
  · have := sumN_upd (f := fun j => if 0 ≤ G (96 + 32 * j + 6) then (1 : Int) else 0) (g := fun k => if 0 ≤ stG G j f (askd G j) (armd G j) (96 + 32 * k + 6) then (1 : Int) else 0) (j := j) (n := (G 1).toNat)
      (fun i hi hij => by rw [o (96 + 32 * i + 6) (by omega)]) (by omega)
    rw [this, ← a1, j6, hst]
    rw [if_neg (by omega), if_pos (by omega)]; omega
  · by_cases e : k = j
    · subst e; rw [j5] at h5; omega
    · rw [o _ (by omega)] at h5 ⊢; exact a2 k hk h5
  · by_cases e : k = (G 6).toNat
    · subst e; rw [gl]; omega
    · rw [o _ (by omega)]; exact a3 k (by omega)
theorem prG_o {G : Nat → Int} {j : Nat} {was t : Int} {f : Nat → Int} {n i : Nat} (hg : gok G) (hj : (j : Int) < G 1) (hn : n ≤ 4) (h : i < 7 ∨ 8 ≤ i ∧ i < 96 + 32 * j + 8 ∨ 96 + 32 * j + 10 ≤ i ∧ i < 96 + 32 * j + 28 ∨ 96 + 32 * j + 32 ≤ i ∧ i < 2736 ∨ 2916 ≤ i) :
    prG G j was t f n i = G i := by
  have hh := hg.1
  unfold hok at hh
  rw [prG_eq _ _ _ _ _ _ hn]
  have b7 : 0 ≤ (if G (96 + 32 * j + 8) < 0 then zupd (prA G j t f n) (96 + 32 * j + 8) t else prA G j t f n) 7 ∧ (if G (96 + 32 * j + 8) < 0 then zupd (prA G j t f n) (96 + 32 * j + 8) t else prA G j t f n) 7 ≤ 60 := by
    split
    · rw [udn (by omega), prA_o hn (by omega)]; omega
    · rw [prA_o hn (by omega)]; omega
  split
  · split
    · rw [udn (by omega), prA_o hn (by omega)]
    · rw [prA_o hn (by omega)]
  · rw [evF_o b7 (by omega)]
    split
    · rw [udn (by omega), prA_o hn (by omega)]
    · rw [prA_o hn (by omega)]
theorem prG_j {G : Nat → Int} {j : Nat} {was t : Int} {f : Nat → Int} {n : Nat} (hg : gok G) (hj : (j : Int) < G 1) (hn : n ≤ 4) :
    prG G j was t f n (96 + 32 * j + 8) = (if G (96 + 32 * j + 8) < 0 then t else G (96 + 32 * j + 8)) ∧ prG G j was t f n (96 + 32 * j + 9) = t ∧
    (∀ a, a < 4 → prG G j was t f n (96 + 32 * j + (28 + a)) = if a < n then f a else G (96 + 32 * j + (28 + a))) ∧ (0 ≤ prG G j was t f n 7 ∧ prG G j was t f n 7 ≤ 60) := by
  have hh := hg.1
  unfold hok at hh
  have b7 : 0 ≤ (if G (96 + 32 * j + 8) < 0 then zupd (prA G j t f n) (96 + 32 * j + 8) t else prA G j t f n) 7 ∧ (if G (96 + 32 * j + 8) < 0 then zupd (prA G j t f n) (96 + 32 * j + 8) t else prA G j t f n) 7 ≤ 60 := by
    split
    · rw [udn (by omega), prA_o hn (by omega)]; omega
    · rw [prA_o hn (by omega)]; omega
  have e : ∀ i, 96 ≤ i → i < 2656 → prG G j was t f n i = (if G (96 + 32 * j + 8) < 0 then zupd (prA G j t f n) (96 + 32 * j + 8) t else prA G j t f n) i := fun i h1 h2 => by
    rw [prG_eq _ _ _ _ _ _ hn]
    split
    · rfl
    · rw [evF_o b7 (by omega)]
  refine ⟨?_, ?_, fun a ha => ?_, ?_⟩
  · rw [e _ (by omega) (by omega)]
    split
    · rw [ude]
    · rw [prA_o hn (by omega)]
  · rw [e _ (by omega) (by omega)]
    split
    · rw [udn (by omega)]; unfold prA; rw [if_pos rfl]
    · unfold prA; rw [if_pos rfl]
  · have e2 : prA G j t f n (96 + 32 * j + (28 + a)) = if a < n then f a else G (96 + 32 * j + (28 + a)) := by
      unfold prA
      rw [if_neg (by omega)]
      by_cases han : a < n
      · rw [if_pos (by omega), if_pos han, show 96 + 32 * j + (28 + a) - (96 + 32 * j + 28) = a by omega]
      · rw [if_neg (by omega), if_neg han]
    rw [e _ (by omega) (by omega)]
    split
    · rw [udn (by omega), e2]
    · exact e2
  · rw [prG_eq _ _ _ _ _ _ hn]
    split
    · exact b7
    · exact evF_7 b7
theorem prG_gok {G : Nat → Int} {j : Nat} {was t : Int} {f : Nat → Int} (hg : gok G) (hj : (j : Int) < G 1) (ht : 0 ≤ t ∧ t ≤ 200000) (hf : ∀ a : Nat, (a : Int) < G (96 + 32 * j + 4) → 0 ≤ f a ∧ f a + G (96 + 32 * j + (12 + a)) ≤ 16) :
    gok (prG G j was t f (armd G j)) := by
  have hh := hg.1
  unfold hok at hh
  obtain ⟨b1, b2⟩ := hg.2.1 j hj
  unfold jok at b1
  have hn : armd G j ≤ 4 := by unfold armd; omega
  have o : ∀ i, (i < 7 ∨ 8 ≤ i ∧ i < 96 + 32 * j + 8 ∨ 96 + 32 * j + 10 ≤ i ∧ i < 96 + 32 * j + 28 ∨ 96 + 32 * j + 32 ≤ i ∧ i < 2736 ∨ 2916 ≤ i) → prG G j was t f (armd G j) i = G i := fun i h => prG_o hg hj hn h
  obtain ⟨j8, j9, j28, g7⟩ := prG_j (was := was) (t := t) (f := f) hg hj hn
  refine gok_job hg j (fun i h1 h2 h3 => o i (by omega)) (by rw [o 6 (by omega)]; omega) g7 (fun k w hk hkj hw => o _ (by omega)) (fun _ => ⟨?_, fun a ha => ?_⟩)
  · unfold jok
    rw [o (96 + 32 * j) (by omega), o (96 + 32 * j + 1) (by omega), o (96 + 32 * j + 2) (by omega), o (96 + 32 * j + 3) (by omega), o (96 + 32 * j + 4) (by omega), o (96 + 32 * j + 5) (by omega), o (96 + 32 * j + 6) (by omega), o (96 + 32 * j + 7) (by omega), j8, j9, o (96 + 32 * j + 10) (by omega), o (96 + 32 * j + 11) (by omega)]
    split <;> omega
  · rw [o (96 + 32 * j + 4) (by omega)] at ha
    have b2 := b2 a ha
    have hf := hf a ha
    unfold aok at b2 ⊢
    rw [o (96 + 32 * j + (12 + a)) (by omega), o (96 + 32 * j + (16 + a)) (by omega), o (96 + 32 * j + (20 + a)) (by omega), o (96 + 32 * j + (24 + a)) (by omega), j28 a (by omega), o (96 + 32 * j + 5) (by omega), j9]
    have : a < armd G j := by unfold armd; omega
    rw [if_pos this]
    omega
/-! THE MODEL: passes, the walk -/
def fr (s s' : MS) : Prop := (∀ k, k = 2 ∨ k = 3 ∨ 5 ≤ k ∧ k ≤ 7 ∨ k = 11 ∨ k = 12 ∨ 15 ≤ k → s' k = s k) ∧ ∀ i, i ≠ 109 → i ≠ 110 → s' 0 i = s 0 i
theorem fr_refl (s : MS) : fr s s := ⟨fun _ _ => rfl, fun _ _ _ => rfl⟩
theorem fr_mset {s s' : MS} {k : Nat} {f : Nat → Int} (h : fr s s') (hk : k = 1 ∨ k = 4 ∨ 8 ≤ k ∧ k ≤ 10 ∨ k = 13 ∨ k = 14) : fr s (mset s' k f) :=
  ⟨fun k' h' => by rw [msn (by omega)]; exact h.1 k' h', fun i h1 h2 => by rw [msn (by omega)]; exact h.2 i h1 h2⟩
theorem fr_tk {s s' : MS} {j : Nat} (h : fr s s') : fr s (tkS s' j) :=
  ⟨fun k' h' => by unfold tkS; rw [msn (by omega), msn (by omega), msn (by omega)]; exact h.1 k' h', fun i h1 h2 => by rw [tkS_k _ _ _ h1 h2]; exact h.2 i h1 h2⟩
theorem fr_rest {s s' : MS} (h : fr s s') (hr : rest s) : rest s' := by
  obtain ⟨h1, h2, h3, h4, h5⟩ := hr
  unfold rest
  rw [h.2 _ (by omega) (by omega), h.2 _ (by omega) (by omega), h.2 _ (by omega) (by omega), h.2 _ (by omega) (by omega), h.2 _ (by omega) (by omega)]
  exact ⟨h1, h2, h3, h4, h5⟩
theorem tkS_o {s : MS} {j k : Nat} (h : k ≠ 0) (h2 : k ≠ 8) (h3 : k ≠ 9) : tkS s j k = s k := by
  unfold tkS; rw [msn h3, msn h2, msn h]
theorem psF_stop {B : Nat → Int} {L : Nat → Nat} {p : PS} {i : Nat} (h : (psF B L p i).2.2.2.2 = 0) : ∀ k, psF B L p (i + k) = psF B L p i
  | 0 => rfl
  | k + 1 => by rw [← Nat.add_assoc, psF, psF_stop h k]; unfold psStep; rw [if_pos (Or.inl h)]
/-- what stays so in a pass -/
def psI (G0 : Nat → Int) (L : Nat → Nat) (n i : Nat) (p : PS) : Prop :=
  gok p.1 ∧ stk p.1 ∧ uok p.2.1 ∧ (∀ i, i < 6 ∨ 8 ≤ i ∧ i < 96 ∨ 2916 ≤ i → p.1 i = G0 i) ∧ (∀ k, i ≤ k → k < n → p.1 (96 + 32 * L k + 5) = 0) ∧ (∀ k w : Nat, (k : Int) < G0 1 → w < 5 ∨ 10 ≤ w ∧ w < 20 → p.1 (96 + 32 * k + w) = G0 (96 + 32 * k + w)) ∧
  0 ≤ p.2.2.1 ∧ p.2.2.1 ≤ i ∧ 0 ≤ p.2.2.2.1 ∧ p.2.2.2.1 ≤ i ∧ -1 ≤ p.2.2.2.2 ∧ p.2.2.2.2 ≤ 80
theorem psI_step {G0 : Nat → Int} {B : Nat → Int} {L : Nat → Nat} {n i : Nat} {p : PS} (hL : ∀ k, k < n → ((L k : Nat) : Int) < G0 1) (hinj : ∀ k k', k < n → k' < n → L k = L k' → k = k') (hi : i < n) (h : psI G0 L n i p) : psI G0 L n (i + 1) (psStep B (L i) p) := by
  obtain ⟨h1, h2, h3, h4, h5, h5b, h6, h7, h8, h9, h10, h11⟩ := h
  have hh := h1.1
  unfold hok at hh
  have e1 := h4 1 (by omega)
  have hj : ((L i : Nat) : Int) < p.1 1 := by rw [e1]; exact hL i hi
  have hw := h5 i (by omega) hi
  have h66 := stk_6 h2 h1 hj hw
  obtain ⟨b1, b2⟩ := h1.2.1 _ hj
  unfold jok at b1
  have hn : armd p.1 (L i) ≤ 4 := by unfold armd; omega
  have ham := tkS_am (s := cm p.1) (j := L i) h1 hj
  have hwd : ∀ a : Nat, (a : Int) < p.1 (96 + 32 * L i + 4) → tkS (cm p.1) (L i) 8 a = p.1 (96 + 32 * L i + (12 + a)) := fun a ha => tkS_8 (cm p.1) (L i) ha
  have hff : ∀ t, fitOK (tkS (cm p.1) (L i)) t = true → ∀ a : Nat, (a : Int) < p.1 (96 + 32 * L i + 4) → 0 ≤ fitF (tkS (cm p.1) (L i)) t a ∧ fitF (tkS (cm p.1) (L i)) t a + p.1 (96 + 32 * L i + (12 + a)) ≤ 16 := fun t ht a ha => by
    have := fitF_r ham ht (a := a) (by rw [tkS_110]; exact ha)
    rw [hwd a ha] at this; exact this
  unfold psStep
  split
  · exact ⟨h1, h2, h3, h4, fun k a b => h5 k (by omega) b, h5b, h6, by omega, h8, by omega, h10, h11⟩
  · unfold psJ
    have hl : -1 ≤ (if 0 < p.2.2.2.2 then p.2.2.2.2 - 1 else p.2.2.2.2) ∧ (if 0 < p.2.2.2.2 then p.2.2.2.2 - 1 else p.2.2.2.2) ≤ 80 := by split <;> omega
    split
    · next e =>
      refine ⟨stG_gok h1 hj (by omega) (hff _ e), stG_stk h1 h2 hj hw, fun a ha => ?_, fun k hk => ?_, fun k k1 k2 => ?_, fun k w hk hw => ?_, by dsimp only; omega, by dsimp only; omega, h8, by dsimp only; omega, hl.1, hl.2⟩
      · dsimp only; unfold stU; rw [udn (by omega), udn (by omega), udn (by omega)]; exact h3 a ha
      · dsimp only; rw [stG_o h1 hj hn (by omega) (by omega) (by omega)]; exact h4 k hk
      · have : ¬ L k = L i := fun q => by have := hinj k i k2 hi q; omega
        have hLk := hL k k2
        dsimp only; rw [stG_o h1 hj hn (by omega) (by omega) (by omega)]; exact h5 k (by omega) k2
      · dsimp only
        rw [stG_o h1 hj hn (by omega) (by omega) (by omega)]; exact h5b k w hk hw
    · split
      · next e =>
        have hft : fitOK (tkS (cm p.1) (L i)) (fstV (tkS (cm p.1) (L i)) (p.1 0 + 1)) = true ∧ fstV (tkS (cm p.1) (L i)) (p.1 0 + 1) ≤ 200000 := by
          rcases (fstV_r (s := tkS (cm p.1) (L i)) (t := p.1 0 + 1) (by omega) (by show p.1 0 ≤ 200000; omega)).2 with q | ⟨q1, q2, q3, q4⟩
          · omega
          · have q3 : _ ≤ p.1 0 + 20000 := q3
            exact ⟨q1, by omega⟩
        refine ⟨prG_gok h1 hj ⟨e.2, hft.2⟩ (hff _ hft.1), ?_, h3, fun k hk => ?_, fun k k1 k2 => ?_, fun k w hk hw => ?_, h6, by dsimp only; omega, by dsimp only; omega, by dsimp only; omega, ?_, ?_⟩
        · refine stk_c h2 (prG_o h1 hj hn (by omega)) (prG_o h1 hj hn (by omega)) (fun k hk => ⟨prG_o h1 hj hn (by omega), prG_o h1 hj hn (by omega)⟩) (fun k hk => prG_o h1 hj hn (by omega))
        · dsimp only; rw [prG_o h1 hj hn (by omega)]; exact h4 k hk
        · have : ¬ L k = L i := fun q => by have := hinj k i k2 hi q; omega
          have hLk := hL k k2
          dsimp only; rw [prG_o h1 hj hn (by omega)]; exact h5 k (by omega) k2
        · dsimp only
          rw [prG_o h1 hj hn (by omega)]; exact h5b k w hk hw
        · dsimp only; split <;> omega
        · dsimp only; split <;> omega
      · refine ⟨h1, h2, h3, h4, fun k a b => h5 k (by omega) b, h5b, h6, by dsimp only; omega, h8, by dsimp only; omega, ?_, ?_⟩
        · dsimp only; split <;> omega
        · dsimp only; split <;> omega

theorem psU {B : Nat → Int} {j : Nat} {p : PS} {a : Nat} (ha : a < 8 ∨ 16 ≤ a) : (psStep B j p).2.1 a = p.2.1 a := by
  unfold psStep
  split
  · rfl
  · unfold psJ
    split
    · dsimp only; unfold stU; rw [udn (by omega), udn (by omega), udn (by omega)]
    · split <;> rfl
theorem psFU {B : Nat → Int} {L : Nat → Nat} {p : PS} {a : Nat} (ha : a < 8 ∨ 16 ≤ a) : ∀ n, (psF B L p n).2.1 a = p.2.1 a
  | 0 => rfl
  | n + 1 => by rw [psF, psU ha, psFU ha n]
theorem psF_I {G0 : Nat → Int} {B : Nat → Int} {L : Nat → Nat} {n : Nat} {p : PS} (hL : ∀ k, k < n → ((L k : Nat) : Int) < G0 1) (hinj : ∀ k k', k < n → k' < n → L k = L k' → k = k') (h : psI G0 L n 0 p) : ∀ i, i ≤ n → psI G0 L n i (psF B L p i)
  | 0, _ => h
  | i + 1, hi => psI_step hL hinj (by omega) (psF_I hL hinj h i (by omega))
theorem prG_congr {G : Nat → Int} {j : Nat} {was was' t : Int} {f f' : Nat → Int} {n : Nat} (hn : n ≤ 4) (h : ∀ a, a < n → f a = f' a) (hw : was = was') : prG G j was t f n = prG G j was' t f' n := by
  rw [prG_eq _ _ _ _ _ _ hn, prG_eq _ _ _ _ _ _ hn, prA_congr h, hw]
theorem stG_congr {G : Nat → Int} {j : Nat} {f f' ask ask' : Nat → Int} {n : Nat} (h : ∀ a, a < n → f a = f' a ∧ ask a = ask' a) : stG G j f ask n = stG G j f' ask' n := by
  unfold stG; rw [stA_congr h]
theorem l_passes {d : Nat} {Q : ZQ} {H : ZH} {m : Nat} {s : MS} {G0 B : Nat → Int} {L : Nat → Nat} {n : Nat} {p : PS} (hM : MI H m) (hr : rest s) (hp : psI G0 L n 0 p) (hL : ∀ k, k < n → ((L k : Nat) : Int) < G0 1) (hinj : ∀ k k', k < n → k' < n → L k = L k' → k = k')
    (hB : ∀ j : Nat, (j : Int) < G0 1 → -1 ≤ B j ∧ B j ≤ 200000) (hn80 : n ≤ 80)
    (h : ∀ s', fr s s' → s' 1 = (psF B L p n).1 → s' 4 = (psF B L p n).2.1 → Q [zI (psF B L p n).2.2.1] (mput H m s')) :
    ∀ r i : Nat, i + r = n → psI G0 L n i (psF B L p i) → ∀ s', fr s s' → s' 1 = (psF B L p i).1 → s' 4 = (psF B L p i).2.1 → (∀ k, k < n → s' 13 k = (L k : Nat)) → (∀ j : Nat, (j : Int) < G0 1 → s' 14 j = B j) →
    zwp (zcall ztb (d + 6)) t_X6_passes Q 65 [some (zR m), some (zI n), some (zI (psF B L p i).2.2.1), some (zI (psF B L p i).2.2.2.1), some (zI (psF B L p i).2.2.2.2), some (zI i), none, none] [] (mput H m s') := by
  intro r
  induction r with
  | zero =>
    intro i hi hI s' hf h1 h4 h13 h14
    have hi : i = n := by omega
    subst hi
    apply bm_X6_passes_65 (d := d + 5) hM
    simp (disch := omega) only [zw_id]
    exact ⟨fun _ => h s' hf h1 h4, fun e => absurd (by omega) e⟩
  | succ r ih =>
    intro i hi hI s' hf h1 h4 h13 h14
    have hI' := psI_step (B := B) hL hinj (by omega) hI
    have ih := ih (i + 1) (by omega) hI'
    have hI0 := hI
    obtain ⟨i1, i2, i3, i4, i5, i5b, i6, i7, i8, i9, i10, i11⟩ := hI
    have hg : gok (s' 1) := by rw [h1]; exact i1
    have hh := hg.1
    unfold hok at hh
    have e1 : s' 1 1 = G0 1 := by rw [h1]; exact i4 1 (by omega)
    have hj : ((L i : Nat) : Int) < s' 1 1 := by rw [e1]; exact hL i (by omega)
    obtain ⟨b1, b2⟩ := hg.2.1 _ hj
    unfold jok at b1
    obtain ⟨ac, eac⟩ := Int.eq_ofNat_of_zero_le b1.1.1
    have hlim := hh.2.2.2.2.2.2.2.2 ac (by omega)
    have hrs := fr_rest hf hr
    have hcols : 0 ≤ colsF (s' 1) (L i) ∧ colsF (s' 1) (L i) ≤ 64 := by
      have := sumN_le (f := fun a => s' 1 (96 + 32 * L i + (12 + a))) (b := 16) (n := (s' 1 (96 + 32 * L i + 4)).toNat) (fun a ha => by have := b2 a (by omega); unfold aok at this; omega)
      unfold colsF; omega
    have hheld : 0 ≤ heldF (s' 1) ac ∧ heldF (s' 1) ac ≤ 5120 := by
      have hb : ∀ j, j < (s' 1 1).toNat → 0 ≤ hbJ (s' 1) ac j ∧ hbJ (s' 1) ac j ≤ 64 := fun j hj => by
        obtain ⟨c1, c2⟩ := hg.2.1 j (by omega)
        unfold jok at c1
        have := sumN_le (f := fun a => if (decide (s' 1 (96 + 32 * j) = (ac : Int)) && hld (s' 1) j a) = true then s' 1 (96 + 32 * j + (12 + a)) else 0) (b := 16) (n := (s' 1 (96 + 32 * j + 4)).toNat) (fun a ha => by
          have := c2 a (by omega); unfold aok at this; split <;> omega)
        unfold hbJ; omega
      have := sumN_le (f := hbJ (s' 1) ac) (b := 64) (n := (s' 1 1).toNat) hb
      unfold heldF; omega
    -- what a step is
    have step : (psF B L p i).2.2.2.2 ≠ 0 → ¬ s' 1 (16 + ac) < colsF (s' 1) (L i) + heldF (s' 1) ac →
        psF B L p (i + 1) = psJ B (s' 1) (s' 4) (psF B L p i).2.2.1 (psF B L p i).2.2.2.1 (if 0 < (psF B L p i).2.2.2.2 then (psF B L p i).2.2.2.2 - 1 else (psF B L p i).2.2.2.2) (L i) := by
      intro q1 q2
      rw [psF, psStep, if_neg, h1, h4]
      intro q
      rcases q with q | q
      · exact q1 q
      · rw [← h1, eac, Int.toNat_natCast] at q; exact q2 q
    have skip : (psF B L p i).2.2.2.2 ≠ 0 → s' 1 (16 + ac) < colsF (s' 1) (L i) + heldF (s' 1) ac → psF B L p (i + 1) = psF B L p i := by
      intro q1 q2
      rw [psF, psStep, if_pos]
      refine Or.inr ?_
      rw [← h1, eac, Int.toNat_natCast]; exact q2
    apply bm_X6_passes_65 (d := d + 5) hM
    simp (disch := omega) only [zw_id, Int.toNat_natCast]
    refine ⟨fun e => absurd e (by omega), fun _ => ⟨fun e => ?_, fun e => ⟨by omega, ?_⟩⟩⟩
    · have hs := psF_stop e (r + 1)
      rw [show i + (r + 1) = n by omega] at hs
      have h := h s' hf (by rw [hs]; exact h1) (by rw [hs]; exact h4)
      rw [hs] at h; exact h
    rw [h13 i (by omega)]
    refine c_columnsOf (d := d + 4) hM hg hj ?_
    apply bm_X6_passes_91 (d := d + 5) hM
    simp (disch := omega) only [jx, Int.reduceToNat, Nat.add_zero]
    refine ⟨by omega, ?_⟩
    rw [eac]
    refine c_heldBy (d := d + 3) hM hg (by omega) ?_
    apply bm_X6_passes_102 (d := d + 5) hM
    simp (disch := omega) only [jx, Int.reduceToNat, Nat.add_zero, eac]
    rw [show ((16 : Int) + (ac : Int)).toNat = 16 + ac by omega]
    simp (disch := omega) only [zw_id]
    refine ⟨by omega, by omega, fun e2 => ?_, fun e2 => ?_⟩
    · have st := step e (by omega)
      -- the arms are taken, and tried
      have go : ∀ l b : Int, l = (if 0 < (psF B L p i).2.2.2.2 then (psF B L p i).2.2.2.2 - 1 else (psF B L p i).2.2.2.2) → (l < 0 ∧ b = 0 ∨ 0 ≤ l ∧ b = 1) →
          zwp (zcall ztb (d + 6)) t_X6_passes Q 157 [some (zR m), some (zI n), some (zI (psF B L p i).2.2.1), some (zI (psF B L p i).2.2.2.1), some (zI l), some (zI i), some (zI (L i : Nat)), some (zI b)] [] (mput H m (tkS s' (L i))) := by
        intro l b hl hb
        rw [← hl] at st
        unfold psJ at st
        have ham := tkS_am (s := s') (j := L i) hg hj
        have hps : psame (tkS s' (L i)) (tkS (cm (s' 1)) (L i)) := tk_same hrs (cm_rest _) rfl
        have h110 : tkS s' (L i) 0 110 = s' 1 (96 + 32 * L i + 4) := tkS_110 _ _
        have hn0 : (tkS s' (L i) 0 110).toNat = armd (s' 1) (L i) := by rw [h110]; rfl
        have hn4 : armd (s' 1) (L i) ≤ 4 := by unfold armd; omega
        have hft := fitOK_same hps (by omega) (s' 1 0)
        apply bm_X6_passes_157 (d := d + 5) hM
        rw [tkS_1]
        refine c_fits (d := d + 2) (s := tkS s' (L i)) hM hg (rest_sk (tkS_rest hrs)) ham (by omega) (fun hfit f hf2 => ?_) (fun hfit f => ?_)
        · -- it starts
          rw [hft.1] at hfit
          rw [if_pos hfit] at st
          apply bm_X6_passes_167 (d := d + 5) hM
          simp (disch := omega) only [zw_id]
          refine ⟨fun q => absurd q (by decide), fun _ => ?_⟩
          have ham2 : amok (mset (tkS s' (L i)) 10 f) := ham
          have h66 := stk_6 (by rw [h1]; exact i2 : stk (s' 1)) hg hj (by rw [h1]; exact i5 i (by omega) (by omega))
          refine c_starts (d := d + 3) (s := mset (tkS s' (L i)) 10 f) hM hg ham2 hj (by rw [msn (by omega), h110]; rfl) (by rw [msn (by omega), tkS_1]; omega) ?_
          have eG : stG (mset (tkS s' (L i)) 10 f 1) (L i) (mset (tkS s' (L i)) 10 f 10) (mset (tkS s' (L i)) 10 f 9) (mset (tkS s' (L i)) 10 f 0 110).toNat = stG (s' 1) (L i) (fitF (tkS (cm (s' 1)) (L i)) (s' 1 0)) (askd (s' 1) (L i)) (armd (s' 1) (L i)) := by
            rw [show mset (tkS s' (L i)) 10 f 1 = s' 1 from rfl, show mset (tkS s' (L i)) 10 f 10 = f from mse, show mset (tkS s' (L i)) 10 f 9 = tkS s' (L i) 9 from rfl, show mset (tkS s' (L i)) 10 f 0 = tkS s' (L i) 0 from rfl, hn0]
            refine stG_congr fun a ha => ⟨?_, ?_⟩
            · rw [hf2 a (by unfold armd at ha; omega), hft.2]
            · rw [tkS_9 _ _ (by unfold armd at ha; omega)]; rfl
          have eU : stU (mset (tkS s' (L i)) 10 f 1) (mset (tkS s' (L i)) 10 f 4) (L i) = stU (s' 1) (s' 4) (L i) := by
            rw [msn (by omega), msn (by omega), tkS_1, tkS_o (by omega) (by omega) (by omega)]
          rw [eG, eU]
          have ih := fun s'' a b c e f => ih s'' a b c e f
          rw [st] at ih
          apply bm_X6_passes_176 (d := d + 5) hM
          simp (disch := omega) only [zw_id, mup_mset, mse, mset_mset]
          have fin : ∀ v, v = (if l < 0 then (0 : Int) else 1) → zwp (zcall ztb (d + 6)) t_X6_passes Q 65 [some (zR m), some (zI n), some (zI ((psF B L p i).2.2.1 + 1)), some (zI (psF B L p i).2.2.2.1), some (zI l), some (zI ((i : Int) + 1)), none, none] []
              (mput H m (mset (mset (mset (tkS s' (L i)) 10 f) 1 (stG (s' 1) (L i) (fitF (tkS (cm (s' 1)) (L i)) (s' 1 0)) (askd (s' 1) (L i)) (armd (s' 1) (L i)))) 4 (zupd (stU (s' 1) (s' 4) (L i)) 12 (stU (s' 1) (s' 4) (L i) 12 + v)))) := by
            intro v hv
            subst hv
            refine ih _ (fr_mset (fr_mset (fr_mset (fr_tk hf) (by omega)) (by omega)) (by omega)) ?_ ?_ (fun k hk => ?_) (fun k hk => ?_)
            · rw [msn (by omega), mse]
            · rw [mse]
            · rw [msn (by omega), msn (by omega), msn (by omega), tkS_o (by omega) (by omega) (by omega)]; exact h13 k hk
            · rw [msn (by omega), msn (by omega), msn (by omega), tkS_o (by omega) (by omega) (by omega)]; exact h14 k hk
          refine ⟨fun q => fin 0 (by rw [if_pos (by omega)]), fun q => fin 1 (by rw [if_neg (by omega)])⟩
        · -- it doesn't
          rw [hft.1] at hfit
          rw [if_neg (by rw [hfit]; decide)] at st
          have bk : ∀ s'' : MS, ∀ st' md' l' : Int, fr s s'' → s'' 13 = s' 13 → s'' 14 = s' 14 → psF B L p (i + 1) = (s'' 1, s'' 4, st', md', l') →
              zwp (zcall ztb (d + 6)) t_X6_passes Q 65 [some (zR m), some (zI n), some (zI st'), some (zI md'), some (zI l'), some (zI ((i : Int) + 1)), none, none] [] (mput H m s'') := by
            intro s'' st' md' l' a1 a2 a3 a4
            have ih := ih s'' a1 (by rw [a4]) (by rw [a4]) (fun k hk => by rw [a2]; exact h13 k hk) (fun k hk => by rw [a3]; exact h14 k hk)
            rw [a4] at ih; exact ih
          have frf : fr s (mset (tkS s' (L i)) 10 f) := fr_mset (fr_tk hf) (by omega)
          have z4 : mset (tkS s' (L i)) 10 f 4 = s' 4 := by rw [msn (by omega), tkS_o (by omega) (by omega) (by omega)]
          have z13 : mset (tkS s' (L i)) 10 f 13 = s' 13 := by rw [msn (by omega), tkS_o (by omega) (by omega) (by omega)]
          have z14 : mset (tkS s' (L i)) 10 f 14 = s' 14 := by rw [msn (by omega), tkS_o (by omega) (by omega) (by omega)]
          have z1 : mset (tkS s' (L i)) 10 f 1 = s' 1 := rfl
          apply bm_X6_passes_167 (d := d + 5) hM
          rw [z1]
          simp (disch := omega) only [zw_id]
          refine ⟨fun _ => ⟨fun q => ?_, fun q => ?_⟩, fun q => absurd (by decide) q⟩
          · rw [if_neg (by omega)] at st
            refine ⟨fun q2 => bk _ _ _ _ frf z13 z14 ?_, fun q2 => bk _ _ _ _ frf z13 z14 ?_⟩
            · rw [st, z1, z4, if_pos (by omega), Int.add_zero]
            · rw [st, z1, z4, if_neg (by omega), Int.add_zero]
          · have hfs := fun r => fsR_same hps (by omega) 300000 (s' 1 0 + 1) r
            have hbb := hB _ (by rw [← e1]; exact hj)
            refine c_promises (d := d) (s := mset (tkS s' (L i)) 10 f) hM hg (rest_sk (tkS_rest (j := L i) hrs)) ham hj (by rw [z14, h14 _ (by rw [← e1]; exact hj)]; exact hbb) (fun t t1 t2 t3 t4 f2 hf2 => ?_) (fun t4 f2 => ?_)
            · -- a promise
              have t4' : fsR (mset (tkS s' (L i)) 10 f) 300000 (s' 1 0 + 1) t := t4
              have hps2 : psame (mset (tkS s' (L i)) 10 f) (tkS (cm (s' 1)) (L i)) := hps
              have hV := fstV_eq ((fsR_same hps2 (by show 0 ≤ tkS s' (L i) 0 110; omega) 300000 (s' 1 0 + 1) t).mp t4')
              have hfF := (fitOK_same hps2 (by show 0 ≤ tkS s' (L i) 0 110; omega) t).2
              rw [hV] at st
              have t1' : s' 1 0 + 1 ≤ t := t1
              rw [if_pos ⟨by omega, by omega⟩] at st
              rw [mset_mset]
              have eG : prG (mset (tkS s' (L i)) 10 f 1) (L i) (mset (tkS s' (L i)) 10 f 14 (L i)) t f2 (mset (tkS s' (L i)) 10 f 0 110).toNat = prG (s' 1) (L i) (B (L i)) t (fitF (tkS (cm (s' 1)) (L i)) t) (armd (s' 1) (L i)) := by
                rw [z1, z14, msn (by omega), hn0]
                refine prG_congr hn4 (fun a ha => ?_) (h14 _ (by rw [← e1]; exact hj))
                rw [hf2 a (by show (a : Int) < tkS s' (L i) 0 110; unfold armd at ha; omega), hfF]
              rw [eG]
              apply bm_X6_passes_219 (d := d + 5) hM
              simp (disch := omega) only [zw_id]
              have frg : ∀ g g', fr s (mset (mset (tkS s' (L i)) 10 g) 1 g') := fun g g' => fr_mset (fr_mset (fr_tk hf) (by omega)) (by omega)
              refine ⟨fun q => absurd q (by decide), fun _ => ⟨fun q2 => bk _ _ _ _ (frg _ _) ?_ ?_ ?_, fun q2 => bk _ _ _ _ (frg _ _) ?_ ?_ ?_⟩⟩
              · rw [msn (by omega)]; exact z13
              · rw [msn (by omega)]; exact z14
              · rw [mse, msn (by omega), st, if_pos (by omega)]
                show _ = (_, mset (tkS s' (L i)) 10 f2 4, _)
                rw [msn (by omega), tkS_o (by omega) (by omega) (by omega)]
                rw [prG_o hg hj hn4 (by omega)]
              · rw [msn (by omega)]; exact z13
              · rw [msn (by omega)]; exact z14
              · rw [mse, msn (by omega), st, if_neg (by omega)]
                show _ = (_, mset (tkS s' (L i)) 10 f2 4, _)
                rw [msn (by omega), tkS_o (by omega) (by omega) (by omega)]
            · -- none
              have t4' : fsR (mset (tkS s' (L i)) 10 f) 300000 (s' 1 0 + 1) (-1) := t4
              have hps2 : psame (mset (tkS s' (L i)) 10 f) (tkS (cm (s' 1)) (L i)) := hps
              have hV := fstV_eq ((fsR_same hps2 (by show 0 ≤ tkS s' (L i) 0 110; omega) 300000 (s' 1 0 + 1) (-1)).mp t4')
              rw [hV] at st
              rw [if_neg (by omega)] at st
              rw [mset_mset]
              apply bm_X6_passes_219 (d := d + 5) hM
              simp (disch := omega) only [zw_id]
              have z1' : mset (tkS s' (L i)) 10 f2 1 = s' 1 := rfl
              have z4' : mset (tkS s' (L i)) 10 f2 4 = s' 4 := z4
              refine ⟨fun _ => ⟨fun q2 => bk _ _ _ _ (fr_mset (fr_tk hf) (by omega)) z13 z14 ?_, fun q2 => bk _ _ _ _ (fr_mset (fr_tk hf) (by omega)) z13 z14 ?_⟩, fun q => absurd (by decide) q⟩
              · rw [st, z1', z4', if_pos (by omega), Int.add_zero]
              · rw [st, z1', z4', if_neg (by omega), Int.add_zero]
      have go2 : ∀ l b : Int, l = (if 0 < (psF B L p i).2.2.2.2 then (psF B L p i).2.2.2.2 - 1 else (psF B L p i).2.2.2.2) → (l < 0 ∧ b = 0 ∨ 0 ≤ l ∧ b = 1) →
          zcall ztb (d + 6) mX6_takes [zR m, zI (L i : Nat)] (mput H m s') (fun v_ H_ => zwp (zcall ztb (d + 6)) t_X6_passes Q 157 [some (zR m), some (zI n), some (zI (psF B L p i).2.2.1), some (zI (psF B L p i).2.2.2.1), some (zI l), some (zI i), some (zI (L i : Nat)), some (zI b)] (v_ ++ []) H_) :=
        fun l b hl hb => c_takes (d := d + 4) hM hg hj (go l b hl hb)
      refine ⟨fun q => ⟨fun q2 => go2 _ _ ?_ (by omega), fun q2 => go2 _ _ ?_ (by omega)⟩, fun q => ⟨fun q2 => go2 _ _ ?_ (by omega), fun q2 => go2 _ _ ?_ (by omega)⟩⟩
      · rw [if_neg (by omega)]; omega
      · rw [if_neg (by omega)]; omega
      · rw [if_pos (by omega)]
      · rw [if_pos (by omega)]
    · have st := skip e (by omega)
      have ih := ih s' hf (by rw [st]; exact h1) (by rw [st]; exact h4) h13 h14
      rw [st] at ih; exact ih

theorem pass_init {G U : Nat → Int} (hg : gok G) (hs : stk G) (hu : uok U) : (∀ k, k < (lnF (clG G (G 1).toNat) (zupd U 15 (U 15 + 1)) (G 1).toNat).2 → (((lnF (clG G (G 1).toNat) (zupd U 15 (U 15 + 1)) (G 1).toNat).1 k : Nat) : Int) < clG G (G 1).toNat 1) ∧
    psI (clG G (G 1).toNat) (lnF (clG G (G 1).toNat) (zupd U 15 (U 15 + 1)) (G 1).toNat).1 (lnF (clG G (G 1).toNat) (zupd U 15 (U 15 + 1)) (G 1).toNat).2 0 (clG G (G 1).toNat, zupd U 15 (U 15 + 1), 0, 0, -1) := by
  have hh := hg.1
  unfold hok at hh
  have eN : (((G 1).toNat : Nat) : Int) = G 1 := by omega
  have gc := clG_gok hg
  have o1 : clG G (G 1).toNat 1 = G 1 := clG_o (by omega)
  have sc : stk (clG G (G 1).toNat) := stk_c hs o1 (clG_o (by omega)) (fun j hj => ⟨clG_o (by omega), clG_o (by omega)⟩) (fun k hk => clG_o (by omega))
  have uc : uok (zupd U 15 (U 15 + 1)) := fun a ha => by rw [udn (by omega)]; exact hu a ha
  obtain ⟨n1, n2⟩ := lnF_b (clG G (G 1).toNat) (zupd U 15 (U 15 + 1)) (G 1).toNat
  refine ⟨fun k hk => ?_, gc, sc, uc, fun i _ => rfl, fun k _ hk => ?_, fun _ _ _ _ => rfl, Int.le_refl 0, Int.le_refl 0, Int.le_refl 0, Int.le_refl 0, by show (-1 : Int) ≤ -1; omega, by show (-1 : Int) ≤ 80; omega⟩
  · have := (n2 k hk).1; rw [o1]; omega
  · have := (n2 k hk).2
    unfold inl at this
    simp only [Bool.and_eq_true, decide_eq_true_eq] at this
    exact this.1.1
theorem passF_I {G U : Nat → Int} (hg : gok G) (hs : stk G) (hu : uok U) : psI (clG G (G 1).toNat) (lnF (clG G (G 1).toNat) (zupd U 15 (U 15 + 1)) (G 1).toNat).1 (lnF (clG G (G 1).toNat) (zupd U 15 (U 15 + 1)) (G 1).toNat).2 (lnF (clG G (G 1).toNat) (zupd U 15 (U 15 + 1)) (G 1).toNat).2 (passF G U) := by
  obtain ⟨h1, h2⟩ := pass_init hg hs hu
  exact psF_I h1 (lnF_inj _ _ _) h2 _ (Nat.le_refl _)
theorem passF_o {G U : Nat → Int} (hg : gok G) (hs : stk G) (hu : uok U) {i : Nat} (hi : i < 6 ∨ 8 ≤ i ∧ i < 96 ∨ 2916 ≤ i) : (passF G U).1 i = G i := by
  have hh := hg.1
  unfold hok at hh
  rw [(passF_I hg hs hu).2.2.2.1 i hi, clG_o (by omega)]
theorem passF_U {G U : Nat → Int} {a : Nat} (ha : a < 8 ∨ 16 ≤ a) : (passF G U).2.1 a = U a := by
  unfold passF
  rw [psFU ha]; exact udn (by omega)
theorem c_passes {d : Nat} {Q : ZQ} {H : ZH} {m : Nat} {s : MS} (hM : MI H m) (hr : rest s) (hg : gok (s 1)) (hs : stk (s 1)) (hu : uok (s 4))
    (h : ∀ s', fr s s' → s' 1 = (passF (s 1) (s 4)).1 → s' 4 = (passF (s 1) (s 4)).2.1 → Q [zI (passF (s 1) (s 4)).2.2.1] (mput H m s')) :
    zcall ztb (d + 7) mX6_passes [zR m] (mput H m s) Q := by
  have hh := hg.1
  unfold hok at hh
  have eN : (((s 1 1).toNat : Nat) : Int) = s 1 1 := by omega
  have gc := clG_gok hg
  have o1 : clG (s 1) (s 1 1).toNat 1 = s 1 1 := clG_o (by omega)
  have sc : stk (clG (s 1) (s 1 1).toNat) := stk_c hs o1 (clG_o (by omega)) (fun j hj => ⟨clG_o (by omega), clG_o (by omega)⟩) (fun k hk => clG_o (by omega))
  have uc : uok (zupd (s 4) 15 (s 4 15 + 1)) := fun a ha => by rw [udn (by omega)]; exact hu a ha
  have l2 : ∀ i j : Nat, ∀ B : Nat → Int, (j : Int) + i = s 1 1 → (∀ k : Nat, k < j → B k = s 1 (96 + 32 * k + 9)) →
      zwp (zcall ztb (d + 6)) t_X6_passes Q 2 [some (zR m), some (zI j), none, none, none, none, none, none] [] (mput H m (mset (mset s 14 B) 1 (clG (s 1) j))) := by
    intro i
    induction i with
    | zero =>
      intro j B hj hB
      have hjj : j = (s 1 1).toNat := by omega
      subst hjj
      apply bm_X6_passes_2 (d := d + 5) hM
      simp (disch := omega) only [mse, msn, o1, zw_id, mup_mset]
      refine ⟨fun _ => ?_, fun e => absurd e (by omega)⟩
      refine c_linesUp (d := d + 2) (s := mset (mset (mset s 14 B) 1 (clG (s 1) (s 1 1).toNat)) 4 (zupd (s 4) 15 (s 4 15 + 1))) hM (by rw [msn (by omega), mse]; exact gc) (by rw [mse]; exact uc) (fun A hA => ?_)
      rw [show mset (mset (mset s 14 B) 1 (clG (s 1) (s 1 1).toNat)) 4 (zupd (s 4) 15 (s 4 15 + 1)) 1 = clG (s 1) (s 1 1).toNat from rfl, show mset (mset (mset s 14 B) 1 (clG (s 1) (s 1 1).toNat)) 4 (zupd (s 4) 15 (s 4 15 + 1)) 4 = zupd (s 4) 15 (s 4 15 + 1) from mse, o1] at hA ⊢
      apply bm_X6_passes_54 (d := d + 5) hM
      obtain ⟨n1, n2⟩ := lnF_b (clG (s 1) (s 1 1).toNat) (zupd (s 4) 15 (s 4 15 + 1)) (s 1 1).toNat
      obtain ⟨hL, hI⟩ := pass_init hg hs hu
      refine l_passes (s := s) (B := fun j => s 1 (96 + 32 * j + 9)) hM hr hI hL (lnF_inj _ _ _) (fun j hj => ?_) (by omega) (fun s' a1 a2 a3 => h s' a1 a2 a3) _ 0 (Nat.zero_add _) hI _ (fr_mset (fr_mset (fr_mset (fr_mset (fr_refl s) (by omega)) (by omega)) (by omega)) (by omega)) rfl ?_ (fun k hk => ?_) (fun j hj => ?_)
      · rw [o1] at hj
        have := (hg.2.1 j hj).1
        unfold jok at this; omega
      · rw [msn (by omega), mse]; rfl
      · rw [mse]; exact hA k hk
      · rw [o1] at hj
        rw [show ∀ A, mset (mset (mset (mset s 14 B) 1 (clG (s 1) (s 1 1).toNat)) 4 (zupd (s 4) 15 (s 4 15 + 1))) 13 A 14 = B from fun A => rfl]
        exact hB j (by omega)
    | succ i ih =>
      intro j B hj hB
      have o1' : clG (s 1) j 1 = s 1 1 := clG_o (by omega)
      have o9 : clG (s 1) j (96 + 32 * j + 9) = s 1 (96 + 32 * j + 9) := clG_o (by omega)
      have ih := ih (j + 1) (zupd B j (s 1 (96 + 32 * j + 9))) (by omega) (fun k hk => by
        unfold zupd
        split
        · next e => rw [e]
        · exact hB k (by omega))
      rw [clG_s] at ih
      apply bm_X6_passes_2 (d := d + 5) hM
      simp (disch := omega) only [mse, msn, o1', zw_id, jx, Int.reduceToNat, Int.toNat_natCast, mup_mset, o9]
      refine ⟨fun e => absurd e (by omega), fun _ => ⟨by omega, by omega, ?_⟩⟩
      rw [show mset (mset (mset (mset s 14 B) 1 (clG (s 1) j)) 14 (zupd B j (s 1 (96 + 32 * j + 9)))) 1 (zupd (clG (s 1) j) (96 + 32 * j + 9) (-1)) = mset (mset s 14 (zupd B j (s 1 (96 + 32 * j + 9)))) 1 (zupd (clG (s 1) j) (96 + 32 * j + 9) (-1)) by
        rw [mset_comm (mset s 14 B) _ _ (show ¬ 1 = 14 by omega), mset_mset, mset_mset]]
      exact ih
  have m0 := l2 (s 1 1).toNat 0 (s 14) (by omega) (fun k hk => absurd hk (by omega))
  rw [show clG (s 1) 0 = s 1 from funext fun i => clG_o (by omega), mset_self, mset_self] at m0
  exact bm_X6_passes (d := d + 5) hM m0
/-! THE MODEL: what a tick does -/
theorem gok_lo {G G' : Nat → Int} (h : ∀ i, i < 2656 → G' i = G i) (hg : gok G) : gok G' := by
  have hh := hg.1
  unfold hok at hh
  refine gok_job hg 80 (fun i a b c => h i (by omega)) (by rw [h 6 (by omega)]; omega) (by rw [h 7 (by omega)]; omega) (fun k w a b c => h _ (by omega)) (fun e => by omega)
theorem hld_c {G G' : Nat → Int} (h : ∀ i, i < 2656 → G' i = G i) {j a : Nat} (hj : j < 80) (ha : a < 4) : hld G' j a = hld G j a := by
  unfold hld; rw [h _ (by omega), h 0 (by omega), h _ (by omega)]
theorem hofF_c {G G' : Nat → Int} (hg : gok G) (h : ∀ i, i < 2656 → G' i = G i) (c : Nat) : hofF G' c = hofF G c := by
  have hh := hg.1
  unfold hok at hh
  unfold hofF
  rw [h 1 (by omega)]
  have key : ∀ n, n ≤ (G 1).toNat → firstN (fun j => anyN (fun a => hld G' j a && heldc G' j a c) (G' (96 + 32 * j + 4)).toNat) n = firstN (fun j => anyN (fun a => hld G j a && heldc G j a c) (G (96 + 32 * j + 4)).toNat) n := by
    intro n
    induction n with
    | zero => intro _; rfl
    | succ n ih =>
      intro hn
      obtain ⟨b1, b2⟩ := hg.2.1 n (by omega)
      unfold jok at b1
      rw [firstN, firstN, ih (by omega)]
      have e : anyN (fun a => hld G' n a && heldc G' n a c) (G' (96 + 32 * n + 4)).toNat = anyN (fun a => hld G n a && heldc G n a c) (G (96 + 32 * n + 4)).toNat := by
        rw [h (96 + 32 * n + 4) (by omega)]
        refine anyN_congr fun a ha => ?_
        rw [hld_c h (by omega) (by omega)]
        unfold heldc
        rw [h _ (by omega), h _ (by omega)]
      rw [e]
  exact key _ (Nat.le_refl _)
theorem hofF_r (G : Nat → Int) (hg : gok G) (c : Nat) : hofF G c = -1 ∨ 0 ≤ hofF G c ∧ hofF G c < G 1 := by
  have hh := hg.1
  unfold hok at hh
  unfold hofF
  rcases firstN_r (p := fun j => anyN (fun a => hld G j a && heldc G j a c) (G (96 + 32 * j + 4)).toNat) (G 1).toNat with h | ⟨j, h1, h2, _⟩
  · exact Or.inl h
  · rw [h2]; exact Or.inr ⟨by omega, by omega⟩
def chB (G : Nat → Int) : Nat := 2916 + 16 * (G 0 % 64).toNat
def chN (G : Nat → Int) (n : Nat) : Nat → Int := fun i => if chB G ≤ i ∧ i < chB G + n then hofF G (i - chB G) else G i
def chU (G U : Nat → Int) : Nat → (Nat → Int)
  | 0 => U
  | c + 1 => if hofF G c < 0 then zupd (chU G U c) 14 (chU G U c 14 + 1) else zupd (chU G U c) (G (96 + 32 * (hofF G c).toNat)).toNat (chU G U c (G (96 + 32 * (hofF G c).toNat)).toNat + 1)
def enF (G U : Nat → Int) : Nat → (Nat → Int) × (Nat → Int)
  | 0 => (G, U)
  | j + 1 => if (enF G U j).1 (96 + 32 * j + 5) = 1 then (enG (enF G U j).1 j, enU (enF G U j).1 (enF G U j).2 j) else enF G U j
def hvF (G U : Nat → Int) : Nat → Int := if 0 < G 4 ∧ G 0 % G 4 = 0 then (fun a => if a < 8 then U a / 2 else U a) else U
def spN (G : Nat → Int) (n : Nat) : Nat → Int := fun i => if 24 ≤ i ∧ i < 24 + 6 * n ∧ (i - 24) % 6 = 0 ∧ 0 ≤ G i ∧ G (i + 4) ≤ G 0 then -1 else G i
/-- the row and the sums after the columns' use is told, and the tick has gone by -/
def tk1 (G U : Nat → Int) : (Nat → Int) × (Nat → Int) := (zupd (chN G 16) 0 (G 0 + 1), chU G U 16)
def tk2 (p : (Nat → Int) × (Nat → Int)) : (Nat → Int) × (Nat → Int) := enF p.1 p.2 (p.1 1).toNat
def tk3 (p : (Nat → Int) × (Nat → Int)) : (Nat → Int) × (Nat → Int) := (spN p.1 12, hvF p.1 p.2)
noncomputable def tickF (G U : Nat → Int) : (Nat → Int) × (Nat → Int) := tk3 (tk2 (tk1 (passF G U).1 (passF G U).2.1))
theorem chU_b {G U : Nat → Int} {a : Nat} (ha : a < 8) : ∀ c, U a ≤ chU G U c a ∧ chU G U c a ≤ U a + c
  | 0 => by simp [chU]
  | c + 1 => by
    have ih := chU_b (G := G) (U := U) ha c
    rw [chU]
    split
    · rw [udn (by omega)]; omega
    · unfold zupd
      split
      · next e => rw [e] at ih ⊢; omega
      · omega
theorem chU_t {G U : Nat → Int} (hg : gok G) {a : Nat} (ha : 16 ≤ a) : ∀ c, chU G U c a = U a
  | 0 => rfl
  | c + 1 => by
    have ih := chU_t (U := U) hg ha c
    have hr := hofF_r G hg c
    have hh := hg.1
    unfold hok at hh
    rw [chU]
    split
    · rw [udn (by omega)]; exact ih
    · obtain ⟨b1, _⟩ := hg.2.1 (hofF G c).toNat (by omega)
      unfold jok at b1
      rw [udn (by omega)]; exact ih
theorem enF_t {G U : Nat → Int} {a : Nat} (ha : 16 ≤ a) : ∀ n, (enF G U n).2 a = U a
  | 0 => rfl
  | n + 1 => by
    have ih := enF_t (G := G) (U := U) ha n
    rw [enF]
    split
    · dsimp only; unfold enU
      split
      · split
        · rw [udn (by omega)]; exact ih
        · rw [udn (by omega)]; exact ih
      · exact ih
    · exact ih
theorem gok_now {G : Nat → Int} (hg : gok G) {v : Int} (hv : 0 ≤ v ∧ v ≤ 150000) : gok (zupd G 0 v) := by
  have hh := hg.1
  unfold hok at hh
  refine ⟨?_, fun k hk => ?_, fun x hx => sok_c (fun w hw => udn (by omega)) (hg.2.2 x hx)⟩
  · unfold hok
    rw [ude, udn (by omega), udn (by omega), udn (by omega), udn (by omega), udn (by omega), udn (by omega), udn (by omega)]
    obtain ⟨a0, a1, a2, a3, a4, a5, a6, a7, a8⟩ := hh
    refine ⟨hv, a1, a2, a3, a4, a5, a6, a7, fun a ha => ?_⟩
    rw [udn (by omega), udn (by omega)]; exact a8 a ha
  · rw [udn (by omega)] at hk
    obtain ⟨b1, b2⟩ := hg.2.1 k hk
    refine ⟨jok_c (fun w hw => udn (by omega)) b1, fun a ha => ?_⟩
    rw [udn (by omega)] at ha
    unfold jok at b1
    exact aok_c (by omega) (fun w hw => udn (by omega)) (b2 a ha)
theorem chN_lo {G : Nat → Int} {n i : Nat} (hi : i < 2916) : chN G n i = G i := by unfold chN chB; rw [if_neg (by omega)]
theorem tk1_gok {G U : Nat → Int} (hg : gok G) (h0 : G 0 < 150000) : gok (tk1 G U).1 := by
  have hh := hg.1
  unfold hok at hh
  exact gok_now (gok_lo (fun i hi => chN_lo (by omega)) hg) (by omega)
/-- a job's end, by parts -/
theorem enG_o {G : Nat → Int} {j i : Nat} (hg : gok G) (hj : (j : Int) < G 1) (h : i < 7 ∨ 8 ≤ i ∧ i < 96 + 32 * j + 5 ∨ i = 96 + 32 * j + 6 ∨ 96 + 32 * j + 8 ≤ i ∧ i < 2736 ∨ 2916 ≤ i) : enG G j i = G i := by
  have hh := hg.1
  unfold hok at hh
  unfold enG
  split
  · rw [evF_o (by rw [udn (by omega), udn (by omega)]; omega) (by omega), udn (by omega), udn (by omega)]
  · rfl
theorem enG_j {G : Nat → Int} {j : Nat} (hg : gok G) (hj : (j : Int) < G 1) (hr : G (96 + 32 * j + 5) = 1) : (enG G j (96 + 32 * j + 5) = 1 ∧ enG G j (96 + 32 * j + 7) = G (96 + 32 * j + 7) ∨ (enG G j (96 + 32 * j + 5) = 2 ∨ enG G j (96 + 32 * j + 5) = 3) ∧ enG G j (96 + 32 * j + 7) = G 0) ∧
    (0 ≤ enG G j 7 ∧ enG G j 7 ≤ 60) := by
  have hh := hg.1
  unfold hok at hh
  unfold enG
  split
  · have b7 : ∀ v, 0 ≤ zupd (zupd G (96 + 32 * j + 5) v) (96 + 32 * j + 7) (G 0) 7 ∧ zupd (zupd G (96 + 32 * j + 5) v) (96 + 32 * j + 7) (G 0) 7 ≤ 60 := fun v => by rw [udn (by omega), udn (by omega)]; omega
    refine ⟨Or.inr ⟨?_, ?_⟩, evF_7 (b7 _)⟩
    · rw [evF_o (b7 _) (by omega), udn (by omega), ude]; split <;> omega
    · rw [evF_o (b7 _) (by omega), ude]
  · exact ⟨Or.inl ⟨hr, rfl⟩, by omega⟩
theorem enG_gok {G : Nat → Int} {j : Nat} (hg : gok G) (hj : (j : Int) < G 1) (hr : G (96 + 32 * j + 5) = 1) : gok (enG G j) := by
  have hh := hg.1
  unfold hok at hh
  obtain ⟨b1, b2⟩ := hg.2.1 j hj
  unfold jok at b1
  have o : ∀ i, (i < 7 ∨ 8 ≤ i ∧ i < 96 + 32 * j + 5 ∨ i = 96 + 32 * j + 6 ∨ 96 + 32 * j + 8 ≤ i ∧ i < 2736 ∨ 2916 ≤ i) → enG G j i = G i := fun i h => enG_o hg hj h
  obtain ⟨j5, g7⟩ := enG_j hg hj hr
  refine gok_job hg j (fun i h1 h2 h3 => o i (by omega)) (by rw [o 6 (by omega)]; omega) g7 (fun k w hk hkj hw => o _ (by omega)) (fun _ => ⟨?_, fun a ha => ?_⟩)
  · unfold jok
    rw [o (96 + 32 * j) (by omega), o (96 + 32 * j + 1) (by omega), o (96 + 32 * j + 2) (by omega), o (96 + 32 * j + 3) (by omega), o (96 + 32 * j + 4) (by omega), o (96 + 32 * j + 6) (by omega), o (96 + 32 * j + 8) (by omega), o (96 + 32 * j + 9) (by omega), o (96 + 32 * j + 10) (by omega), o (96 + 32 * j + 11) (by omega)]
    omega
  · rw [o (96 + 32 * j + 4) (by omega)] at ha
    have b2 := b2 a ha
    unfold aok at b2 ⊢
    rw [o (96 + 32 * j + (12 + a)) (by omega), o (96 + 32 * j + (16 + a)) (by omega), o (96 + 32 * j + (20 + a)) (by omega), o (96 + 32 * j + (24 + a)) (by omega), o (96 + 32 * j + (28 + a)) (by omega), o (96 + 32 * j + 9) (by omega)]
    omega
theorem enG_stk {G : Nat → Int} {j : Nat} (hg : gok G) (hs : stk G) (hj : (j : Int) < G 1) (hr : G (96 + 32 * j + 5) = 1) : stk (enG G j) := by
  have hh := hg.1
  unfold hok at hh
  obtain ⟨j5, g7⟩ := enG_j hg hj hr
  have o : ∀ i, (i < 7 ∨ 8 ≤ i ∧ i < 96 + 32 * j + 5 ∨ i = 96 + 32 * j + 6 ∨ 96 + 32 * j + 8 ≤ i ∧ i < 2736 ∨ 2916 ≤ i) → enG G j i = G i := fun i h => enG_o hg hj h
  obtain ⟨a1, a2, a3⟩ := hs
  unfold stk
  rw [o 1 (by omega), o 6 (by omega)]
  refine ⟨?_, fun k hk h5 => ?_, fun k hk => ?_⟩
  · rw [a1]; exact sumN_congr fun k hk => by
      by_cases e : k = j
      · subst e; rw [o _ (by omega)]
      · rw [o _ (by omega)]
  · by_cases e : k = j
    · subst e; omega
    · rw [o _ (by omega)] at h5 ⊢; exact a2 k hk h5
  · rw [o _ (by omega)]; exact a3 k hk
/-- what stays so while jobs end -/
def enI (G0 U0 : Nat → Int) (p : (Nat → Int) × (Nat → Int)) : Prop := gok p.1 ∧ stk p.1 ∧ (∀ i, i < 7 ∨ 8 ≤ i ∧ i < 96 ∨ 2916 ≤ i → p.1 i = G0 i) ∧ ∀ a, a < 8 → p.2 a = U0 a
theorem enF_I {G U : Nat → Int} (hg : gok G) (hs : stk G) : ∀ n : Nat, (n : Int) ≤ G 1 → enI G U (enF G U n)
  | 0, _ => ⟨hg, hs, fun _ _ => rfl, fun _ _ => rfl⟩
  | n + 1, hn => by
    have ih := enF_I (U := U) hg hs n (by omega)
    rw [enF]
    split
    · next e =>
      obtain ⟨a1, a2, a3, a4⟩ := ih
      have hj : (n : Int) < (enF G U n).1 1 := by rw [a3 1 (by omega)]; omega
      refine ⟨enG_gok a1 hj e, enG_stk a1 a2 hj e, fun i hi => ?_, fun a ha => ?_⟩
      · dsimp only; rw [enG_o a1 hj (by omega)]; exact a3 i hi
      · dsimp only; unfold enU
        split
        · split
          · rw [udn (by omega)]; exact a4 a ha
          · rw [udn (by omega)]; exact a4 a ha
        · exact a4 a ha
    · exact ih
theorem spN_o {G : Nat → Int} {n i : Nat} (h : i < 24 ∨ 24 + 6 * n ≤ i) : spN G n i = G i := by unfold spN; rw [if_neg (by omega)]
theorem spN_w {G : Nat → Int} {n x w : Nat} (h1 : 0 < w) (h2 : w < 6) : spN G n (24 + 6 * x + w) = G (24 + 6 * x + w) := by unfold spN; rw [if_neg (by omega)]
theorem spN_gok {G : Nat → Int} (hg : gok G) : gok (spN G 12) := by
  have hh := hg.1
  refine ⟨?_, fun k hk => ?_, fun x hx => ?_⟩
  · unfold hok at hh ⊢
    rw [spN_o (by omega), spN_o (by omega), spN_o (by omega), spN_o (by omega), spN_o (by omega), spN_o (by omega), spN_o (by omega), spN_o (by omega)]
    obtain ⟨a0, a1, a2, a3, a4, a5, a6, a7, a8⟩ := hh
    refine ⟨a0, a1, a2, a3, a4, a5, a6, a7, fun a ha => ?_⟩
    rw [spN_o (by omega), spN_o (by omega)]; exact a8 a ha
  · rw [spN_o (by omega)] at hk
    obtain ⟨b1, b2⟩ := hg.2.1 k hk
    refine ⟨jok_c (fun w hw => spN_o (by omega)) b1, fun a ha => ?_⟩
    rw [spN_o (by omega)] at ha
    unfold jok at b1
    exact aok_c (by omega) (fun w hw => spN_o (by omega)) (b2 a ha)
  · have hs := hg.2.2 x hx
    unfold sok at hs ⊢
    rw [spN_w (by omega) (by omega), spN_w (by omega) (by omega), spN_w (by omega) (by omega), spN_w (by omega) (by omega), spN_w (by omega) (by omega)]
    unfold spN
    split <;> omega
theorem spN_stk {G : Nat → Int} (hg : gok G) (hs : stk G) : stk (spN G 12) :=
  stk_c hs (spN_o (by omega)) (spN_o (by omega)) (fun j hj => ⟨spN_o (by omega), spN_o (by omega)⟩) (fun k hk => spN_o (by omega))
/-- what ticks keep -/
def tinv (G U : Nat → Int) : Prop := gok G ∧ stk G ∧ (∀ a, a < 8 → 0 ≤ U a ∧ U a ≤ 16 * G 0) ∧ (∀ i, 2916 ≤ i → -1 ≤ G i ∧ G i < 80 ∧ (3940 ≤ i → G i = 0)) ∧ ∀ a, 16 ≤ a → U a = 0
theorem tinv_u {G U : Nat → Int} (h : tinv G U) : uok U := fun a ha => by
  have h1 := h.2.2.1 a ha
  have := h.1.1
  unfold hok at this
  omega
theorem tickF_inv {G U : Nat → Int} (h : tinv G U) (h0 : G 0 < 150000) : tinv (tickF G U).1 (tickF G U).2 ∧ (∀ i, i < 6 → i ≠ 0 → (tickF G U).1 i = G i) ∧ (tickF G U).1 0 = G 0 + 1 ∧ ∀ a, a < 16 → (tickF G U).1 (8 + a) = G (8 + a) := by
  have hu := tinv_u h
  obtain ⟨hg, hs, hU, hC, hT⟩ := h
  have pI := passF_I hg hs hu
  have po := fun i hi => passF_o hg hs hu (i := i) hi
  have pU := fun a (ha : a < 8 ∨ 16 ≤ a) => passF_U (G := G) (U := U) (a := a) ha
  have g1 : gok (tk1 (passF G U).1 (passF G U).2.1).1 := tk1_gok pI.1 (by rw [po 0 (by omega)]; exact h0)
  have o1 : ∀ i, 0 < i → i < 2916 → (tk1 (passF G U).1 (passF G U).2.1).1 i = (passF G U).1 i := fun i h1 h2 => by
    unfold tk1; dsimp only; rw [udn (by omega), chN_lo h2]
  have o10 : (tk1 (passF G U).1 (passF G U).2.1).1 0 = G 0 + 1 := by unfold tk1; dsimp only; rw [ude, po 0 (by omega)]
  have pg := pI.1.1
  unfold hok at pg
  have s1 : stk (tk1 (passF G U).1 (passF G U).2.1).1 := stk_c pI.2.1 (o1 1 (by omega) (by omega)) (o1 6 (by omega) (by omega)) (fun j hj => ⟨o1 _ (by omega) (by omega), o1 _ (by omega) (by omega)⟩) (fun k hk => o1 _ (by omega) (by omega))
  have gh := g1.1
  unfold hok at gh
  obtain ⟨e1, e2, e3, e4⟩ := enF_I (U := (tk1 (passF G U).1 (passF G U).2.1).2) g1 s1 ((tk1 (passF G U).1 (passF G U).2.1).1 1).toNat (by omega)
  have t0 : (tickF G U).1 0 = G 0 + 1 := by
    show spN (tk2 _).1 12 0 = _
    rw [spN_o (by omega)]
    unfold tk2
    rw [e3 0 (by omega), o10]
  have tlo : ∀ i, 0 < i → (i < 6 ∨ 8 ≤ i ∧ i < 24) → (tickF G U).1 i = G i := fun i h1 h2 => by
    show spN (tk2 _).1 12 i = _
    rw [spN_o (by omega)]
    unfold tk2
    rw [e3 i (by omega), o1 i (by omega) (by omega), po i (by omega)]
  refine ⟨⟨spN_gok e1, spN_stk e1 e2, fun a ha => ?_, fun i h1 => ?_, fun a ha => ?_⟩, fun i h1 h2 => tlo i (by omega) (by omega), t0, fun a ha => tlo _ (by omega) (by omega)⟩
  · rw [t0]
    have b := chU_b (G := (passF G U).1) (U := (passF G U).2.1) ha 16
    rw [pU a (by omega)] at b
    have ub := hU a ha
    show 0 ≤ hvF (tk2 _).1 (tk2 _).2 a ∧ hvF (tk2 _).1 (tk2 _).2 a ≤ _
    have e4a := e4 a ha
    have e4b : (tk2 (tk1 (passF G U).1 (passF G U).2.1)).2 a = chU (passF G U).1 (passF G U).2.1 16 a := e4a
    unfold hvF
    split
    · dsimp only; rw [if_pos ha, e4b]; omega
    · rw [e4b]; omega
  · show -1 ≤ spN (tk2 _).1 12 i ∧ spN (tk2 _).1 12 i < 80 ∧ (3940 ≤ i → spN (tk2 _).1 12 i = 0)
    rw [spN_o (by omega)]
    unfold tk2
    rw [e3 i (by omega)]
    unfold tk1
    dsimp only
    rw [udn (by omega)]
    unfold chN
    split
    · next q =>
      have := hofF_r (passF G U).1 pI.1 (i - chB (passF G U).1)
      unfold chB at q
      omega
    · rw [po i (by omega)]; exact hC i h1
  · show hvF (tk2 _).1 (tk2 _).2 a = 0
    have e : (tk2 (tk1 (passF G U).1 (passF G U).2.1)).2 a = 0 := by
      unfold tk2
      have e5 := enF_t (G := (tk1 (passF G U).1 (passF G U).2.1).1) (U := (tk1 (passF G U).1 (passF G U).2.1).2) ha ((tk1 (passF G U).1 (passF G U).2.1).1 1).toNat
      rw [e5]
      unfold tk1; dsimp only
      rw [chU_t pI.1 ha, pU a (by omega)]; exact hT a ha
    unfold hvF
    split
    · dsimp only; rw [if_neg (by omega)]; exact e
    · exact e
/-! THE MODEL: ticks, the walk -/
theorem chN_s (G : Nat → Int) (n : Nat) : chN G (n + 1) = zupd (chN G n) (chB G + n) (hofF G n) := by
  funext i
  unfold chN zupd
  by_cases e : i = chB G + n
  · subst e; rw [if_pos (by omega), if_pos rfl, show chB G + n - chB G = n by omega]
  · rw [if_neg e]
    dsimp only
    by_cases h : chB G ≤ i ∧ i < chB G + n
    · rw [if_pos h, if_pos (by omega)]
    · rw [if_neg h, if_neg (by omega)]
theorem chN_0 (G : Nat → Int) : chN G 0 = G := funext fun i => by unfold chN; rw [if_neg (by omega)]
theorem spN_s (G : Nat → Int) (n : Nat) : spN G (n + 1) = if 0 ≤ G (24 + 6 * n) ∧ G (24 + 6 * n + 4) ≤ G 0 then zupd (spN G n) (24 + 6 * n) (-1) else spN G n := by
  funext i
  by_cases c : 0 ≤ G (24 + 6 * n) ∧ G (24 + 6 * n + 4) ≤ G 0
  · rw [if_pos c]
    unfold spN zupd
    by_cases e : i = 24 + 6 * n
    · subst e; rw [if_pos rfl, if_pos ⟨by omega, by omega, by omega, c.1, c.2⟩]
    · rw [if_neg e]
      dsimp only
      by_cases h : 24 ≤ i ∧ i < 24 + 6 * n ∧ (i - 24) % 6 = 0 ∧ 0 ≤ G i ∧ G (i + 4) ≤ G 0
      · rw [if_pos h, if_pos ⟨h.1, by omega, h.2.2⟩]
      · rw [if_neg h, if_neg (fun q => h ⟨q.1, by omega, q.2.2⟩)]
  · rw [if_neg c]
    unfold spN
    by_cases e : i = 24 + 6 * n
    · subst e; rw [if_neg (fun q => c q.2.2.2), if_neg (by omega)]
    · by_cases h : 24 ≤ i ∧ i < 24 + 6 * n ∧ (i - 24) % 6 = 0 ∧ 0 ≤ G i ∧ G (i + 4) ≤ G 0
      · rw [if_pos h, if_pos ⟨h.1, by omega, h.2.2⟩]
      · rw [if_neg h, if_neg (fun q => h ⟨q.1, by omega, q.2.2⟩)]
theorem spN_0 (G : Nat → Int) : spN G 0 = G := funext fun i => by unfold spN; rw [if_neg (by omega)]
theorem tmod_n {a b : Int} (ha : 0 ≤ a) : Int.tmod a b = a % b := Int.tmod_eq_emod_of_nonneg ha
theorem c_ticks {d : Nat} {Q : ZQ} {H : ZH} {m : Nat} {s : MS} (hM : MI H m) (hr : rest s) (ht : tinv (s 1) (s 4)) (h0 : s 1 0 < 150000)
    (h : ∀ s', fr s s' → s' 1 = (tickF (s 1) (s 4)).1 → s' 4 = (tickF (s 1) (s 4)).2 → Q [] (mput H m s')) : zcall ztb (d + 8) mX6_ticks [zR m] (mput H m s) Q := by
  have hu := tinv_u ht
  obtain ⟨hg, hs, hU, hC, hT⟩ := ht
  have pI := passF_I hg hs hu
  have po := fun i hi => passF_o hg hs hu (i := i) hi
  have pg := pI.1.1
  unfold hok at pg
  have g1 : gok (tk1 (passF (s 1) (s 4)).1 (passF (s 1) (s 4)).2.1).1 := tk1_gok pI.1 (by rw [po 0 (by omega)]; exact h0)
  have s1 : stk (tk1 (passF (s 1) (s 4)).1 (passF (s 1) (s 4)).2.1).1 := stk_c pI.2.1 (by unfold tk1; dsimp only; rw [udn (by omega), chN_lo (by omega)]) (by unfold tk1; dsimp only; rw [udn (by omega), chN_lo (by omega)])
    (fun j hj => by unfold tk1; dsimp only; rw [udn (by omega), chN_lo (by omega), udn (by omega), chN_lo (by omega)]; exact ⟨rfl, rfl⟩) (fun k hk => by unfold tk1; dsimp only; rw [udn (by omega), chN_lo (by omega)])
  have gh := g1.1
  unfold hok at gh
  have eI := enF_I (U := (tk1 (passF (s 1) (s 4)).1 (passF (s 1) (s 4)).2.1).2) g1 s1
  obtain ⟨e1, e2, e3, e4⟩ := eI ((tk1 (passF (s 1) (s 4)).1 (passF (s 1) (s 4)).2.1).1 1).toNat (by omega)
  have e1h := e1.1
  unfold hok at e1h
  apply bm_X6_ticks (d := d + 5) hM
  refine c_passes (d := d) hM hr hg hs hu (fun s' f1 f2 f3 => ?_)
  apply bm_X6_ticks_4 (d := d + 5) hM
  -- spans end
  have l181 : ∀ r x : Nat, x + r = 12 → ∀ s', fr s s' → s' 1 = spN (tk2 (tk1 (passF (s 1) (s 4)).1 (passF (s 1) (s 4)).2.1)).1 x → s' 4 = (tickF (s 1) (s 4)).2 →
      zwp (zcall ztb (d + 7)) t_X6_ticks Q 181 [some (zR m), none, none, some (zI x)] [] (mput H m s') := by
    intro r
    induction r with
    | zero =>
      intro x hx s' f1 f2 f3
      have hx : x = 12 := by omega
      subst hx
      apply bm_X6_ticks_181 (d := d + 5) hM
      exact ⟨fun _ => h s' f1 f2 f3, fun e => absurd (by decide) e⟩
    | succ r ih =>
      intro x hx s' f1 f2 f3
      have hsp := e1.2.2 x (by omega)
      unfold sok at hsp
      have ih := fun s'' => ih (x + 1) (by omega) s''
      rw [spN_s] at ih
      have q0 : s' 1 (24 + 6 * x) = (tk2 (tk1 (passF (s 1) (s 4)).1 (passF (s 1) (s 4)).2.1)).1 (24 + 6 * x) := by rw [f2, spN_o (by omega)]
      have q4 : s' 1 (24 + 6 * x + 4) = (tk2 (tk1 (passF (s 1) (s 4)).1 (passF (s 1) (s 4)).2.1)).1 (24 + 6 * x + 4) := by rw [f2, spN_o (by omega)]
      have qn : s' 1 0 = (tk2 (tk1 (passF (s 1) (s 4)).1 (passF (s 1) (s 4)).2.1)).1 0 := by rw [f2, spN_o (by omega)]
      have hsp : (-1 ≤ s' 1 (24 + 6 * x) ∧ s' 1 (24 + 6 * x) ≤ 1000000) ∧ (0 ≤ s' 1 (24 + 6 * x) → 0 ≤ s' 1 (24 + 6 * x + 4) ∧ s' 1 (24 + 6 * x + 4) ≤ 200000) := by
        rw [q0, q4]; unfold tk2; exact ⟨hsp.1, fun q => by have := hsp.2 q; omega⟩
      have hn : 0 ≤ s' 1 0 ∧ s' 1 0 ≤ 150000 := by rw [qn]; exact e1h.1
      rw [← q0, ← q4, ← qn] at ih
      apply bm_X6_ticks_181 (d := d + 5) hM
      simp (disch := omega) only [zw_id, sx, Int.reduceToNat, Nat.add_zero]
      refine ⟨fun e => absurd e (by omega), fun _ => ⟨by omega, fun e => ?_, fun e => ?_⟩⟩
      · rw [if_neg (by omega)] at ih; exact ih s' f1 f2 f3
      · have h4 := hsp.2 (by omega)
        simp (disch := omega) only [zw_id]
        refine ⟨by omega, fun e2 => ?_, fun e2 => ⟨by omega, ?_⟩⟩
        · rw [if_neg (by omega)] at ih; exact ih s' f1 f2 f3
        · rw [if_pos (by omega)] at ih
          rw [show ((24 : Int) + ((x : Int) * 6)).toNat = 24 + 6 * x by omega, mup_mset]
          refine ih _ (fr_mset f1 (by omega)) ?_ ?_
          · rw [mse, f2]
          · rw [msn (by omega)]; exact f3
  -- shares are halved
  have l138 : ∀ r a : Nat, a + r = 8 → ∀ s', fr s s' → s' 1 = (tk2 (tk1 (passF (s 1) (s 4)).1 (passF (s 1) (s 4)).2.1)).1 →
      (∀ b, s' 4 b = if b < a then hvF (tk2 (tk1 (passF (s 1) (s 4)).1 (passF (s 1) (s 4)).2.1)).1 (tk2 (tk1 (passF (s 1) (s 4)).1 (passF (s 1) (s 4)).2.1)).2 b else (tk2 (tk1 (passF (s 1) (s 4)).1 (passF (s 1) (s 4)).2.1)).2 b) →
      zwp (zcall ztb (d + 7)) t_X6_ticks Q 138 [some (zR m), none, some (zI (s' 1 4)), some (zI a)] [] (mput H m s') := by
    have ub : ∀ a, a < 8 → 0 ≤ (tk2 (tk1 (passF (s 1) (s 4)).1 (passF (s 1) (s 4)).2.1)).2 a ∧ (tk2 (tk1 (passF (s 1) (s 4)).1 (passF (s 1) (s 4)).2.1)).2 a ≤ 2000000000000 := fun a ha => by
      unfold tk2
      rw [e4 a ha]
      have b := chU_b (G := (passF (s 1) (s 4)).1) (U := (passF (s 1) (s 4)).2.1) ha 16
      rw [passF_U (Or.inl ha)] at b
      have := hu a ha
      unfold tk1; dsimp only; omega
    have hvo : ∀ b, 8 ≤ b → hvF (tk2 (tk1 (passF (s 1) (s 4)).1 (passF (s 1) (s 4)).2.1)).1 (tk2 (tk1 (passF (s 1) (s 4)).1 (passF (s 1) (s 4)).2.1)).2 b = (tk2 (tk1 (passF (s 1) (s 4)).1 (passF (s 1) (s 4)).2.1)).2 b := fun b hb => by
      unfold hvF; split
      · dsimp only; rw [if_neg (by omega)]
      · rfl
    intro r
    induction r with
    | zero =>
      intro a ha s' f1 f2 f3
      have ha : a = 8 := by omega
      subst ha
      have f4 : s' 4 = (tickF (s 1) (s 4)).2 := funext fun b => by
        rw [f3 b]
        show _ = hvF (tk2 _).1 (tk2 _).2 b
        split
        · rfl
        · rw [hvo b (by omega)]
      apply bm_X6_ticks_138 (d := d + 5) hM
      exact ⟨fun _ => l181 12 0 rfl s' f1 (by rw [spN_0]; exact f2) f4, fun e => absurd (by decide) e⟩
    | succ r ih =>
      intro a ha s' f1 f2 f3
      have b4 : 0 ≤ s' 1 4 ∧ s' 1 4 ≤ 100 := by rw [f2]; exact e1h.2.2.2.2.1
      have b0 : 0 ≤ s' 1 0 ∧ s' 1 0 ≤ 150000 := by rw [f2]; exact e1h.1
      have no : ¬ (0 < s' 1 4 ∧ s' 1 0 % s' 1 4 = 0) → s' 4 = (tickF (s 1) (s 4)).2 := fun q => funext fun b => by
        rw [f3 b]
        show _ = hvF (tk2 _).1 (tk2 _).2 b
        rw [f2] at q
        unfold hvF
        rw [if_neg q]
        split <;> rfl
      apply bm_X6_ticks_138 (d := d + 5) hM
      simp (disch := omega) only [zw_id]
      refine ⟨fun e => absurd e (by omega), fun _ => ⟨fun e => ?_, fun e => ⟨by omega, ?_⟩⟩⟩
      · exact l181 12 0 rfl s' f1 (by rw [spN_0]; exact f2) (no (by omega))
      · have hm : 0 ≤ s' 1 0 % s' 1 4 ∧ s' 1 0 % s' 1 4 < s' 1 4 := ⟨Int.emod_nonneg _ (by omega), Int.emod_lt_of_pos _ (by omega)⟩
        rw [tmod_n b0.1, zw_id (x := s' 1 0 % s' 1 4) (by omega) (by omega)]
        refine ⟨fun e2 => l181 12 0 rfl s' f1 (by rw [spN_0]; exact f2) (no (fun q => e2 q.2)), fun e2 => ⟨by omega, ?_⟩⟩
        have hva : ∀ b, b < 8 → hvF (tk2 (tk1 (passF (s 1) (s 4)).1 (passF (s 1) (s 4)).2.1)).1 (tk2 (tk1 (passF (s 1) (s 4)).1 (passF (s 1) (s 4)).2.1)).2 b = (tk2 (tk1 (passF (s 1) (s 4)).1 (passF (s 1) (s 4)).2.1)).2 b / 2 := fun b hb => by
          rw [f2] at e e2
          unfold hvF; rw [if_pos ⟨by omega, by omega⟩, if_pos hb]
        have uba := ub a (by omega)
        have f3a : s' 4 a = (tk2 (tk1 (passF (s 1) (s 4)).1 (passF (s 1) (s 4)).2.1)).2 a := by rw [f3 a, if_neg (by omega)]
        rw [show ((0 : Int) + (a : Int)).toNat = a by omega, f3a, zwl_id (by omega) (by omega), Int.tdiv_eq_ediv_of_nonneg uba.1, mup_mset]
        have ih := ih (a + 1) (by omega) (mset s' 4 (zupd (s' 4) a ((tk2 (tk1 (passF (s 1) (s 4)).1 (passF (s 1) (s 4)).2.1)).2 a / 2))) (fr_mset f1 (by omega)) f2 (fun b => by
          rw [mse]
          unfold zupd
          split
          · next e => rw [e, if_pos (by omega), hva a (by omega)]
          · next e =>
            rw [f3 b]
            by_cases q : b < a
            · rw [if_pos q, if_pos (by omega)]
            · rw [if_neg q, if_neg (by omega)])
        exact ih
  -- jobs end
  have l98 : ∀ r j : Nat, (j : Int) + r = (tk1 (passF (s 1) (s 4)).1 (passF (s 1) (s 4)).2.1).1 1 → ∀ s', fr s s' → s' 1 = (enF (tk1 (passF (s 1) (s 4)).1 (passF (s 1) (s 4)).2.1).1 (tk1 (passF (s 1) (s 4)).1 (passF (s 1) (s 4)).2.1).2 j).1 →
      s' 4 = (enF (tk1 (passF (s 1) (s 4)).1 (passF (s 1) (s 4)).2.1).1 (tk1 (passF (s 1) (s 4)).1 (passF (s 1) (s 4)).2.1).2 j).2 →
      zwp (zcall ztb (d + 7)) t_X6_ticks Q 98 [some (zR m), none, some (zI j), none] [] (mput H m s') := by
    intro r
    induction r with
    | zero =>
      intro j hj s' f1 f2 f3
      obtain ⟨i1, i2, i3, i4⟩ := eI j (by omega)
      have m1 : s' 1 1 = j := by rw [f2, i3 1 (by omega)]; omega
      have jj : ((tk1 (passF (s 1) (s 4)).1 (passF (s 1) (s 4)).2.1).1 1).toNat = j := by omega
      apply bm_X6_ticks_98 (d := d + 5) hM
      simp (disch := omega) only [zw_id]
      refine ⟨fun _ => l138 8 0 rfl s' f1 ?_ (fun b => ?_), fun e => absurd e (by omega)⟩
      · unfold tk2; rw [jj]; exact f2
      · rw [if_neg (by omega)]; unfold tk2; rw [jj, f3]
    | succ r ih =>
      intro j hj s' f1 f2 f3
      obtain ⟨i1, i2, i3, i4⟩ := eI j (by omega)
      have ih := ih (j + 1) (by omega)
      rw [enF] at ih
      rw [← f2, ← f3] at ih
      have hg' : gok (s' 1) := by rw [f2]; exact i1
      have hh := hg'.1
      unfold hok at hh
      have m1 : (j : Int) < s' 1 1 := by rw [f2, i3 1 (by omega)]; omega
      obtain ⟨b1, b2⟩ := hg'.2.1 j m1
      unfold jok at b1
      apply bm_X6_ticks_98 (d := d + 5) hM
      simp (disch := omega) only [zw_id, jx, Int.reduceToNat]
      refine ⟨fun e => absurd e (by omega), fun _ => ⟨by omega, fun e => ?_, fun e => ?_⟩⟩
      · rw [if_neg (by omega)] at ih; exact ih s' f1 f2 f3
      · rw [if_pos (by omega)] at ih
        refine c_ends (d := d + 4) hM hg' m1 ?_
        apply bm_X6_ticks_123 (d := d + 5) hM
        exact ih _ (fr_mset (fr_mset f1 (by omega)) (by omega)) rfl mse
  -- the chart
  have hb0 : 0 ≤ s' 1 0 ∧ s' 1 0 < 150000 := by rw [f2, po 0 (by omega)]; have := hg.1; unfold hok at this; omega
  have hbase : (2916 : Int) + ((Int.tmod (zw (s' 1 0)) 64) * 16) = (chB (passF (s 1) (s 4)).1 : Nat) := by
    rw [zw_id (by omega) (by omega), tmod_n hb0.1, f2]
    rw [f2] at hb0
    unfold chB; omega
  rw [hbase]
  have l24 : ∀ r c : Nat, c + r = 16 → ∀ s', fr s s' → s' 1 = chN (passF (s 1) (s 4)).1 c → s' 4 = chU (passF (s 1) (s 4)).1 (passF (s 1) (s 4)).2.1 c →
      zwp (zcall ztb (d + 7)) t_X6_ticks Q 24 [some (zR m), some (zI (chB (passF (s 1) (s 4)).1 : Nat)), some (zI c), none] [] (mput H m s') := by
    have hcb : 2916 ≤ chB (passF (s 1) (s 4)).1 ∧ chB (passF (s 1) (s 4)).1 + 16 ≤ 3940 := by unfold chB; have := pg.1; omega
    intro r
    induction r with
    | zero =>
      intro c hc s' f1 f2 f3
      have hc : c = 16 := by omega
      subst hc
      apply bm_X6_ticks_24 (d := d + 5) hM
      refine ⟨fun _ => ?_, fun e => absurd (by decide) e⟩
      rw [mup_mset]
      have hN := gh.2.1
      refine l98 ((tk1 (passF (s 1) (s 4)).1 (passF (s 1) (s 4)).2.1).1 1).toNat 0 (by omega) _ (fr_mset f1 (by omega)) ?_ ?_
      · rw [mse, f2, chN_lo (show 0 < 2916 by omega)]; rfl
      · rw [msn (by omega), f3]; rfl
    | succ r ih =>
      intro c hc s' f1 f2 f3
      have ih := ih (c + 1) (by omega)
      rw [chN_s, chU] at ih
      have hg' : gok (s' 1) := by rw [f2]; exact gok_lo (fun i hi => chN_lo (by omega)) pI.1
      have hhc : hofF (s' 1) c = hofF (passF (s 1) (s 4)).1 c := by rw [f2]; exact hofF_c pI.1 (fun i hi => chN_lo (by omega)) c
      have hr := hofF_r (passF (s 1) (s 4)).1 pI.1 c
      apply bm_X6_ticks_24 (d := d + 5) hM
      simp (disch := omega) only [zw_id]
      refine ⟨fun e => absurd e (by omega), fun _ => ?_⟩
      refine c_holderOf (d := d + 4) hM hg' (by omega) ?_
      rw [hhc]
      apply bm_X6_ticks_35 (d := d + 5) hM
      simp (disch := omega) only [zw_id]
      rw [show ((chB (passF (s 1) (s 4)).1 : Nat) + (c : Int)).toNat = chB (passF (s 1) (s 4)).1 + c by omega]
      refine ⟨by omega, fun e => ?_, fun e => ?_⟩
      · rw [if_neg (by omega)] at ih
        obtain ⟨j, ej⟩ := Int.eq_ofNat_of_zero_le e
        rw [ej, Int.toNat_natCast] at ih
        rw [ej]
        obtain ⟨b1, b2⟩ := pI.1.2.1 j (by omega)
        unfold jok at b1
        have hj80 : j < 80 := by omega
        simp (disch := omega) only [jx, Int.reduceToNat, Nat.add_zero, mup_mset, mse, udn]
        have ea : s' 1 (96 + 32 * j) = (passF (s 1) (s 4)).1 (96 + 32 * j) := by rw [f2, chN_lo (by omega)]
        rw [ea, show ((0 : Int) + (passF (s 1) (s 4)).1 (96 + 32 * j)).toNat = ((passF (s 1) (s 4)).1 (96 + 32 * j)).toNat by omega]
        refine ⟨by omega, by omega, ih _ (fr_mset (fr_mset f1 (by omega)) (by omega)) ?_ ?_⟩
        · rw [msn (by omega), mse, f2]
        · rw [mse, msn (by omega), f3]
      · rw [if_pos (by omega)] at ih
        simp only [mup_mset]
        refine ih _ (fr_mset (fr_mset f1 (by omega)) (by omega)) ?_ ?_
        · rw [msn (by omega), mse, f2]
        · rw [mse, msn (by omega), f3]
  exact l24 16 0 rfl s' f1 (by rw [chN_0]; exact f2) f3
