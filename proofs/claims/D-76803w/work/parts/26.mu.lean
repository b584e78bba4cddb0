/-! THE MODEL: arms put elsewhere -/
def kEnd (G : Nat → Int) (n : Nat) : Int := G (96 + 32 * (n / 4) + 6) + G (96 + 32 * (n / 4) + (16 + n % 4))
def wdN (G : Nat → Int) (n : Nat) : Int := G (96 + 32 * (n / 4) + (12 + n % 4))
def elsC (s : MS) (n : Nat) (p : Nat → Bool) : Int := plc (fun c => bz s (s 1 0) (kEnd (s 1) n) (s 1 (96 + 32 * (n / 4))) c || p c) (wdN (s 1) n)
def isHo (G : Nat → Int) (n : Nat) : Bool := decide (((n % 4 : Nat) : Int) < G (96 + 32 * (n / 4) + 4)) && hld G (n / 4) (n % 4)
theorem td4 (n : Nat) : Int.tdiv (n : Int) 4 = ((n / 4 : Nat) : Int) := rfl
theorem tm4 (n : Nat) : Int.tmod (n : Int) 4 = ((n % 4 : Nat) : Int) := rfl
theorem isHo_w {G : Nat → Int} {n : Nat} (hg : gok G) (hn : (n : Int) < 4 * G 1) (ho : isHo G n = true) : 1 ≤ wdN G n ∧ wdN G n ≤ 16 := by
  unfold isHo at ho
  simp only [Bool.and_eq_true, decide_eq_true_eq] at ho
  have b2 := (hg.2.1 (n / 4) (by omega)).2 (n % 4) ho.1
  unfold aok at b2
  unfold wdN
  omega
theorem c_elsewhere {d : Nat} {Q : ZQ} {H : ZH} {m : Nat} {s : MS} {n : Nat} {p : Nat → Bool} (hM : MI H m) (hg : gok (s 1)) (hk : skok s) (hn : (n : Int) < 4 * s 1 1) (ho : isHo (s 1) n = true)
    (h : Q [zI (if elsC s n p < 0 then 0 else cset (cov (elsC s n p) (wdN (s 1) n)))] (mput H m s)) : zcall ztb (d + 4) mX6_elsewhere [zR m, zI n, zI (cset p)] (mput H m s) Q := by
  have hh := hg.1
  unfold hok at hh
  have hj : ((n / 4 : Nat) : Int) < s 1 1 := by omega
  have ha4 : n % 4 < 4 := by omega
  unfold isHo at ho
  simp only [Bool.and_eq_true, decide_eq_true_eq] at ho
  obtain ⟨b1, b2⟩ := hg.2.1 _ hj
  have b2 := b2 _ ho.1
  unfold jok at b1
  unfold aok at b2
  unfold elsC kEnd wdN at h
  apply bm_X6_elsewhere (d := d + 1) hM
  rw [zw_id (x := (n : Int)) (by omega) (by omega), td4, tm4]
  generalize n / 4 = j at *
  generalize n % 4 = a at *
  simp (disch := omega) only [zw_id, jx, jxa, Int.reduceToNat, Nat.add_zero]
  refine ⟨by omega, by omega, by omega, ?_⟩
  refine c_busy (d := d) hM hg hk (by omega) (by omega) (by omega) ?_
  apply bm_X6_elsewhere_34 (d := d + 1) hM
  simp (disch := omega) only [jx, jxa, Int.reduceToNat]
  refine ⟨by omega, ?_⟩
  rw [cset_or]
  refine c_X6_place (d := d + 2) (by omega) ?_
  have hr := plc_r (fun c => bz s (s 1 0) (s 1 (96 + 32 * j + 6) + s 1 (96 + 32 * j + (16 + a))) (s 1 (96 + 32 * j)) c || p c) (s 1 (96 + 32 * j + (12 + a)))
  apply bm_X6_elsewhere_49 (d := d + 1) hM
  simp (disch := omega) only [zw_id, jx, jxa, Int.reduceToNat]
  refine ⟨fun e => ⟨by omega, ?_⟩, fun e => ?_⟩
  · rw [if_neg (by omega)] at h
    rw [cset_cov (by omega) (by omega) (by omega)]; exact h
  · rw [if_pos (by omega)] at h; exact h
/-- the arms fit, and then those that are as if they were not there -/
def mvB (s : MS) (gA gB : Nat) (second : Bool) (own : Nat → Bool) : Bool :=
  let f := if second = true then gB else gA
  let o := if second = true then gA else gB
  decide (0 ≤ elsC s f own) && decide (0 ≤ elsC s o (fun c => own c || cov (elsC s f own) (wdN (s 1) f) c))
def fbF (s : MS) (t : Int) (c : Nat) : Bool := anyN (fun a => cov (fitF s t a) (s 8 a) c) (s 0 110).toNat
def mvG (s : MS) : Bool :=
  if s 0 116 < 0 then true
  else if s 0 117 < 0 then decide (0 ≤ elsC s (s 0 116).toNat (fbF s (s 1 0)))
  else mvB s (s 0 116).toNat (s 0 117).toNat (decide (wdN (s 1) (s 0 116).toNat < wdN (s 1) (s 0 117).toNat)) (fbF s (s 1 0))
def mvF (s : MS) : Bool := fitOK s (s 1 0) && mvG s
theorem cov_ne {f w : Int} (h1 : 0 ≤ f) (h2 : 1 ≤ w) (h3 : f + w ≤ 16) : ¬ cset (cov f w) = 0 := by
  intro e
  have := cset_zero.mp e f.toNat (by omega)
  unfold cov at this
  simp at this
  omega
theorem els_r {s : MS} {n : Nat} {p : Nat → Bool} (hg : gok (s 1)) (hn : (n : Int) < 4 * s 1 1) (ho : isHo (s 1) n = true) : (if elsC s n p < 0 then (0 : Int) else cset (cov (elsC s n p) (wdN (s 1) n))) = 0 ↔ elsC s n p < 0 := by
  have hw := isHo_w hg hn ho
  have hr := plc_r (fun c => bz s (s 1 0) (kEnd (s 1) n) (s 1 (96 + 32 * (n / 4))) c || p c) (wdN (s 1) n)
  have hr : elsC s n p = -1 ∨ 0 ≤ elsC s n p ∧ elsC s n p + wdN (s 1) n ≤ 16 := by
    rcases hr with e | ⟨e1, e2, _⟩
    · exact Or.inl e
    · exact Or.inr ⟨e1, e2⟩
  by_cases q : elsC s n p < 0
  · rw [if_pos q]; exact ⟨fun _ => q, fun _ => rfl⟩
  · rw [if_neg q]; exact ⟨fun e => absurd e (cov_ne (by omega) hw.1 (by omega)), fun e => absurd e q⟩
theorem elsC_10 (s : MS) (f : Nat → Int) (n : Nat) (p : Nat → Bool) : elsC (mset s 10 f) n p = elsC s n p := rfl
theorem c_moved {d : Nat} {Q : ZQ} {H : ZH} {m : Nat} {s : MS} (hM : MI H m) (hg : gok (s 1)) (hk : skok s) (ha : amok s)
    (hA : 0 ≤ s 0 116 → s 0 116 < 4 * s 1 1 ∧ isHo (s 1) (s 0 116).toNat = true) (hB : 0 ≤ s 0 117 → s 0 117 < 4 * s 1 1 ∧ isHo (s 1) (s 0 117).toNat = true)
    (h : ∀ f, Q [zI (if mvF s = true then 1 else 0)] (mput H m (mset s 10 f))) : zcall ztb (d + 6) mX6_moved [zR m] (mput H m s) Q := by
  have hh := hg.1
  unfold hok at hh
  have hk' := hk
  obtain ⟨k1, k2, k3, k4, _⟩ := hk'
  have ha' := ha
  obtain ⟨ha1, ha2, ha3⟩ := ha'
  unfold mvF at h
  apply bm_X6_moved (d := d + 4) hM
  refine c_fits (d := d + 1) hM hg hk ha (by omega) (fun hf f hff => ?_) (fun hf f => ?_)
  · rw [hf, Bool.true_and] at h
    apply bm_X6_moved_10 (d := d + 4) hM
    simp (disch := omega) only [zw_id]
    refine ⟨fun _ => ?_, fun e => absurd (by decide) e⟩
    have hfr : ∀ k : Nat, (k : Int) < s 0 110 → 0 ≤ f k ∧ f k + s 8 k ≤ 16 := fun k hk => by rw [hff k hk]; exact fitF_r ha hf hk
    refine c_foundBits (d := d + 3) (s := mset s 10 f) hM ha hfr ?_
    have efb : fbits (mset s 10 f) = fbF s (s 1 0) := funext fun c => anyN_congr fun a ha => by
      show cov (f a) (s 8 a) c = _
      rw [hff a (by show (a : Int) < s 0 110; have : a < (s 0 110).toNat := ha; omega)]
    rw [efb]
    have h := h f
    apply bm_X6_moved_19 (d := d + 4) hM
    simp only [msn (show ¬ 0 = 10 by omega), msn (show ¬ 1 = 10 by omega)]
    rw [zw_id (x := s 0 116) (by omega) (by omega), zw_id (x := s 0 117) (by omega) (by omega)]
    refine ⟨fun e => ?_, fun e => ?_⟩
    · have hA := hA e
      obtain ⟨nA, eA⟩ := Int.eq_ofNat_of_zero_le e
      rw [show mvG s = (if s 0 117 < 0 then decide (0 ≤ elsC s (s 0 116).toNat (fbF s (s 1 0))) else mvB s (s 0 116).toNat (s 0 117).toNat (decide (wdN (s 1) (s 0 116).toNat < wdN (s 1) (s 0 117).toNat)) (fbF s (s 1 0))) from if_neg (by omega)] at h
      rw [eA, Int.toNat_natCast] at h hA
      rw [eA] at k3
      have wA := isHo_w hg hA.1 hA.2
      have elsA := els_r (p := fbF s (s 1 0)) hg hA.1 hA.2
      have one : s 0 117 < 0 → zwp (zcall ztb (d + 5)) t_X6_moved Q 81 [some (zR m), some (zI (cset (fbF s (s 1 0)))), none, none] [] (mput H m (mset s 10 f)) := by
        intro eB
        simp only [if_pos eB] at h
        apply bm_X6_moved_81 (d := d + 4) hM
        simp only [msn (show ¬ 0 = 10 by omega)]
        rw [eA]
        refine c_elsewhere (d := d + 1) (s := mset s 10 f) hM hg hk hA.1 hA.2 ?_
        rw [elsC_10, show mset s 10 f 1 = s 1 from rfl]
        have hz : ∀ y : Int, y = (if elsC s nA (fbF s (s 1 0)) < 0 then (0 : Int) else cset (cov (elsC s nA (fbF s (s 1 0))) (wdN (s 1) nA))) → zw y = y := fun y hy => by
          rw [hy]; split
          · rfl
          · exact zw_cset _
        apply bm_X6_moved_103 (d := d + 4) hM
        simp only [msn (show ¬ 0 = 10 by omega), hz _ rfl, elsA, zw_id (x := s 0 117) (by omega) (by omega)]
        refine ⟨fun q => ⟨fun _ => ?_, fun q2 => absurd q q2⟩, fun q => ⟨fun q2 => absurd q2 (by omega), fun _ => ⟨fun q2 => absurd q2 q, fun _ => ?_⟩⟩⟩
        · rw [if_neg (by simp; omega)] at h; exact h
        · rw [if_pos (by simp; omega)] at h; exact h
      refine ⟨one, fun eB => ?_⟩
      have hB := hB (by omega)
      obtain ⟨nB, eB2⟩ := Int.eq_ofNat_of_zero_le (show 0 ≤ s 0 117 by omega)
      simp only [if_neg eB] at h
      rw [eB2, Int.toNat_natCast] at h hB
      rw [eB2] at k4
      have wB := isHo_w hg hB.1 hB.2
      have j1 : 0 ≤ (96 + ((nB / 4 : Nat) : Int) * 32) + (12 + ((nB % 4 : Nat) : Int)) ∧ (96 + ((nB / 4 : Nat) : Int) * 32) + (12 + ((nB % 4 : Nat) : Int)) < 3940 := by omega
      have j2 : 0 ≤ (96 + ((nA / 4 : Nat) : Int) * 32) + (12 + ((nA % 4 : Nat) : Int)) ∧ (96 + ((nA / 4 : Nat) : Int) * 32) + (12 + ((nA % 4 : Nat) : Int)) < 3940 := by omega
      have w1 : s 1 ((96 + ((nB / 4 : Nat) : Int) * 32) + (12 + ((nB % 4 : Nat) : Int))).toNat = wdN (s 1) nB := by unfold wdN; rw [jx (by omega), jxa (by omega)]; rfl
      have w2 : s 1 ((96 + ((nA / 4 : Nat) : Int) * 32) + (12 + ((nA % 4 : Nat) : Int))).toNat = wdN (s 1) nA := by unfold wdN; rw [jx (by omega), jxa (by omega)]; rfl
      rw [eA, eB2, td4, tm4, td4, tm4, w1, w2, zw_id (x := wdN (s 1) nB) (by omega) (by omega), zw_id (x := wdN (s 1) nA) (by omega) (by omega)]
      -- the first has found its place, or not; then the other
      have two : ∀ (n1 n2 : Nat) (x2 : Int), (n1 : Int) < 4 * s 1 1 ∧ isHo (s 1) n1 = true → (n2 : Int) < 4 * s 1 1 ∧ isHo (s 1) n2 = true → (x2 = 0 ∧ n2 = nB ∨ x2 = 1 ∧ n2 = nA) →
          Q [zI (if (decide (0 ≤ elsC s n1 (fbF s (s 1 0))) && decide (0 ≤ elsC s n2 (fun c => fbF s (s 1 0) c || cov (elsC s n1 (fbF s (s 1 0))) (wdN (s 1) n1) c))) = true then 1 else 0)] (mput H m (mset s 10 f)) →
          zwp (zcall ztb (d + 5)) t_X6_moved Q 103 [some (zR m), some (zI (cset (fbF s (s 1 0)))), some (zI x2), none] [zI (if elsC s n1 (fbF s (s 1 0)) < 0 then 0 else cset (cov (elsC s n1 (fbF s (s 1 0))) (wdN (s 1) n1)))] (mput H m (mset s 10 f)) := by
        intro n1 n2 x2 h1 h2 hx h
        have els1 := els_r (p := fbF s (s 1 0)) hg h1.1 h1.2
        have els2 := els_r (p := fun c => fbF s (s 1 0) c || cov (elsC s n1 (fbF s (s 1 0))) (wdN (s 1) n1) c) hg h2.1 h2.2
        have hz : ∀ (p : Nat → Bool) n, zw (if elsC s n p < 0 then (0 : Int) else cset (cov (elsC s n p) (wdN (s 1) n))) = (if elsC s n p < 0 then (0 : Int) else cset (cov (elsC s n p) (wdN (s 1) n))) := fun p n => by
          split
          · rfl
          · exact zw_cset _
        apply bm_X6_moved_103 (d := d + 4) hM
        simp only [msn (show ¬ 0 = 10 by omega), hz, els1, eA, eB2, zw_id (x := ((nB : Nat) : Int)) (by omega) (by omega), zw_id (x := x2) (by omega) (by omega)]
        refine ⟨fun q => ⟨fun _ => ?_, fun q2 => absurd q q2⟩, fun q => ⟨fun _ => ?_, fun q2 => absurd (by omega) q2⟩⟩
        · rw [if_neg (by simp; omega)] at h; exact h
        · have go : zcall ztb (d + 5) mX6_elsewhere [zR m, zI n2, zI (zor (cset (fbF s (s 1 0))) (if elsC s n1 (fbF s (s 1 0)) < 0 then 0 else cset (cov (elsC s n1 (fbF s (s 1 0))) (wdN (s 1) n1))))] (mput H m (mset s 10 f)) (fun v_ H_ => ∀ y, zwp (zcall ztb (d + 5)) t_X6_moved Q 147 [some (zR m), some (zI (cset (fbF s (s 1 0)))), some (zI x2), some (zI y)] (v_ ++ []) H_) := by
            rw [if_neg q, cset_or]
            refine c_elsewhere (d := d + 1) (s := mset s 10 f) hM hg hk h2.1 h2.2 ?_
            rw [elsC_10, show mset s 10 f 1 = s 1 from rfl]
            intro y
            apply bm_X6_moved_147 (d := d + 4) hM
            simp only [hz, els2]
            refine ⟨fun q2 => ?_, fun q2 => ?_⟩
            · rw [if_neg (by simp; omega)] at h; exact h
            · rw [if_pos (by simp; omega)] at h; exact h
          have go2 := fun (hc : zcall ztb (d + 5) mX6_elsewhere [zR m, zI n2, zI (zor (cset (fbF s (s 1 0))) (if elsC s n1 (fbF s (s 1 0)) < 0 then 0 else cset (cov (elsC s n1 (fbF s (s 1 0))) (wdN (s 1) n1))))] (mput H m (mset s 10 f)) (fun v_ H_ => zwp (zcall ztb (d + 5)) t_X6_moved Q 147 [some (zR m), some (zI (cset (fbF s (s 1 0)))), some (zI x2), some (zI (if elsC s n1 (fbF s (s 1 0)) < 0 then 0 else cset (cov (elsC s n1 (fbF s (s 1 0))) (wdN (s 1) n1))))] (v_ ++ []) H_)) => hc
          have hc : zcall ztb (d + 5) mX6_elsewhere [zR m, zI n2, zI (zor (cset (fbF s (s 1 0))) (if elsC s n1 (fbF s (s 1 0)) < 0 then 0 else cset (cov (elsC s n1 (fbF s (s 1 0))) (wdN (s 1) n1))))] (mput H m (mset s 10 f)) (fun v_ H_ => zwp (zcall ztb (d + 5)) t_X6_moved Q 147 [some (zR m), some (zI (cset (fbF s (s 1 0)))), some (zI x2), some (zI (if elsC s n1 (fbF s (s 1 0)) < 0 then 0 else cset (cov (elsC s n1 (fbF s (s 1 0))) (wdN (s 1) n1))))] (v_ ++ []) H_) := by
            rw [if_neg q, cset_or]
            refine c_elsewhere (d := d + 1) (s := mset s 10 f) hM hg hk h2.1 h2.2 ?_
            rw [elsC_10, show mset s 10 f 1 = s 1 from rfl]
            apply bm_X6_moved_147 (d := d + 4) hM
            simp only [hz, els2]
            refine ⟨fun q2 => ?_, fun q2 => ?_⟩
            · rw [if_neg (by simp; omega)] at h; exact h
            · rw [if_pos (by simp; omega)] at h; exact h
          rcases hx with ⟨hx, hn⟩ | ⟨hx, hn⟩
          · subst hx hn
            exact ⟨fun _ => hc, fun q2 => absurd rfl q2⟩
          · subst hx hn
            exact ⟨fun q2 => absurd q2 (by decide), fun _ => hc⟩
      unfold mvB at h
      refine ⟨j1, j2, fun e3 => ?_, fun e3 => ?_⟩
      · rw [decide_eq_false (by omega)] at h
        apply bm_X6_moved_81 (d := d + 4) hM
        simp only [msn (show ¬ 0 = 10 by omega)]
        rw [eA]
        refine c_elsewhere (d := d + 1) (s := mset s 10 f) hM hg hk hA.1 hA.2 ?_
        rw [elsC_10, show mset s 10 f 1 = s 1 from rfl]
        exact two nA nB 0 hA hB (Or.inl ⟨rfl, rfl⟩) h
      · rw [decide_eq_true (by omega)] at h
        refine c_elsewhere (d := d + 1) (s := mset s 10 f) hM hg hk hB.1 hB.2 ?_
        rw [elsC_10, show mset s 10 f 1 = s 1 from rfl]
        exact two nB nA 1 hB hA (Or.inr ⟨rfl, rfl⟩) h
    · rw [show mvG s = true from if_pos (by omega)] at h; exact h
  · rw [hf, Bool.false_and] at h
    apply bm_X6_moved_10 (d := d + 4) hM
    simp (disch := omega) only [zw_id]
    exact ⟨fun e => absurd (by decide) e, fun _ => h f⟩
/-! THE MODEL: fewest moves, two jobs together, orders, shrunk -/
def amS (s : MS) (a b : Int) : MS := mset s 0 (zupd (zupd (s 0) 116 a) 117 b)
def amF (s : MS) (a b : Int) : Bool := mvF (amS s a b)
theorem amS_back {s : MS} {a b : Int} {f : Nat → Int} (h1 : s 0 116 = -1) (h2 : s 0 117 = -1) : mset (mset (amS s a b) 10 f) 0 (zupd (zupd (amS s a b 0) 116 (-1)) 117 (-1)) = mset s 10 f := by
  have e : zupd (zupd (amS s a b 0) 116 (-1)) 117 (-1) = s 0 := by
    funext i
    unfold amS
    rw [mse]
    unfold zupd
    by_cases e1 : i = 117
    · rw [if_pos e1, e1, h2]
    · rw [if_neg e1]
      by_cases e2 : i = 116
      · rw [if_pos e2, e2, h1]
      · rw [if_neg e2, if_neg e1, if_neg e2]
  rw [e, mset_comm _ _ _ (by omega)]
  unfold amS
  rw [mset_mset, mset_self]
theorem mvF_10 (s : MS) (f : Nat → Int) : mvF (mset s 10 f) = mvF s := by
  unfold mvF
  rw [fitOK_10]
  have e : fbF (mset s 10 f) = fbF s := by
    funext t c; unfold fbF; rw [fitF_10]; rfl
  have : mvG (mset s 10 f) = mvG s := by
    unfold mvG
    rw [e]
    rfl
  rw [this]; rfl
theorem amF_10 (s : MS) (f : Nat → Int) (a b : Int) : amF (mset s 10 f) a b = amF s a b := by
  unfold amF
  have : amS (mset s 10 f) a b = mset (amS s a b) 10 f := by
    unfold amS; rw [msn (show ¬ 0 = 10 by omega), mset_comm _ _ _ (by omega)]
  rw [this, mvF_10]
theorem c_areMoved {d : Nat} {Q : ZQ} {H : ZH} {m : Nat} {s : MS} {a b : Int} (hM : MI H m) (hg : gok (s 1)) (hk : skok s) (ha : amok s) (h1 : s 0 116 = -1) (h2 : s 0 117 = -1)
    (hA : a = -1 ∨ 0 ≤ a ∧ a < 4 * s 1 1 ∧ isHo (s 1) a.toNat = true) (hB : b = -1 ∨ 0 ≤ b ∧ b < 4 * s 1 1 ∧ isHo (s 1) b.toNat = true)
    (h : ∀ f, Q [zI (if amF s a b = true then 1 else 0)] (mput H m (mset s 10 f))) : zcall ztb (d + 7) mX6_areMoved [zR m, zI a, zI b] (mput H m s) Q := by
  have hh := hg.1
  unfold hok at hh
  have e0 : ∀ i, i ≠ 116 → i ≠ 117 → amS s a b 0 i = s 0 i := fun i i1 i2 => by unfold amS; rw [mse, udn i2, udn i1]
  have e6 : amS s a b 0 116 = a := by unfold amS; rw [mse, udn (by omega), ude]
  have e7 : amS s a b 0 117 = b := by unfold amS; rw [mse, ude]
  have hk1 : skok (amS s a b) := by
    unfold skok at hk ⊢
    rw [e0 114 (by omega) (by omega), e0 115 (by omega) (by omega), e6, e7, e0 118 (by omega) (by omega)]
    obtain ⟨k1, k2, k3, k4, k5, k6⟩ := hk
    exact ⟨k1, k2, by omega, by omega, k5, k6⟩
  have ha1 : amok (amS s a b) := by
    unfold amok at ha ⊢
    rw [e0 109 (by omega) (by omega), e0 110 (by omega) (by omega)]
    exact ha
  apply bm_X6_areMoved (d := d + 6) hM
  rw [show mup (mup s 0 116 a) 0 117 b = amS s a b by unfold amS; rw [mup_mset, mup_mset, mset_mset, mse]]
  refine c_moved (d := d) (s := amS s a b) hM hg hk1 ha1 (fun e => ?_) (fun e => ?_) (fun f => ?_)
  · rw [e6] at e ⊢; exact hA.elim (fun q => absurd e (by omega)) (fun q => q.2)
  · rw [e7] at e ⊢; exact hB.elim (fun q => absurd e (by omega)) (fun q => q.2)
  apply bm_X6_areMoved_14 (d := d + 6) hM
  refine ⟨?_, ?_⟩
  · split
    · exact Or.inr rfl
    · exact Or.inl rfl
  · have e : mup (mup (mset (amS s a b) 10 f) 0 116 (-1)) 0 117 (-1) = mset s 10 f := by
      rw [mup_mset, mup_mset, mset_mset, mse, msn (show ¬ 0 = 10 by omega), amS_back h1 h2]
    rw [e]; exact h f
/-- the fewest arms that have to be moved -/
noncomputable def fmF (s : MS) : Int :=
  if amF s (-1) (-1) = true then 0
  else if anyN (fun a => isHo (s 1) a && amF s a (-1)) (4 * s 1 1).toNat = true then 1
  else if anyN (fun a => isHo (s 1) a && anyN (fun b => decide (a < b) && isHo (s 1) b && amF s a b) (4 * s 1 1).toNat) (4 * s 1 1).toNat = true then 2 else -2
theorem c_fewestMoves {d : Nat} {Q : ZQ} {H : ZH} {m : Nat} {s : MS} (hM : MI H m) (hg : gok (s 1)) (hk : skok s) (ha : amok s) (h1 : s 0 116 = -1) (h2 : s 0 117 = -1)
    (h : ∀ f, Q [zI (fmF s)] (mput H m (mset s 10 f))) : zcall ztb (d + 8) mX6_fewestMoves [zR m] (mput H m s) Q := by
  have hh := hg.1
  unfold hok at hh
  have zbit : ∀ b : Bool, zw (if b = true then 1 else 0) = 0 ↔ b = false := fun b => by cases b <;> simp <;> decide
  have jn : ∀ n : Nat, (n : Int) < 4 * s 1 1 → ∃ j a : Nat, Int.tdiv (zw n) 4 = j ∧ Int.tmod (zw n) 4 = a ∧ n / 4 = j ∧ n % 4 = a ∧ (j : Int) < s 1 1 ∧ a < 4 := fun n hn =>
    ⟨n / 4, n % 4, by rw [zw_id (by omega) (by omega)]; rfl, by rw [zw_id (by omega) (by omega)]; rfl, rfl, rfl, by omega, by omega⟩
  -- two of them
  have l54 : amF s (-1) (-1) = false → anyN (fun a => isHo (s 1) a && amF s a (-1)) (4 * s 1 1).toNat = false →
      ∀ r n : Nat, ∀ f, (n : Int) + r = 4 * s 1 1 → anyN (fun a => isHo (s 1) a && anyN (fun b => decide (a < b) && isHo (s 1) b && amF s a b) (4 * s 1 1).toNat) n = false →
      zwp (zcall ztb (d + 7)) t_X6_fewestMoves Q 54 [some (zR m), some (zI (4 * s 1 1)), some (zI n), none] [] (mput H m (mset s 10 f)) := by
    intro g0 g1 r
    induction r with
    | zero =>
      intro n f hn hf
      apply bm_X6_fewestMoves_54 (d := d + 4) hM
      simp (disch := omega) only [zw_id]
      refine ⟨fun _ => ?_, fun e => absurd e (by omega)⟩
      have h := h f
      unfold fmF at h
      rw [if_neg (by rw [g0]; decide), if_neg (by rw [g1]; decide), if_neg (by rw [show (4 * s 1 1).toNat = n by omega] at hf ⊢; rw [hf]; decide)] at h
      exact h
    | succ r ih =>
      intro n f hn hf
      have l63 : ∀ q k : Nat, ∀ f, n + 1 ≤ k → (k : Int) + q = 4 * s 1 1 → anyN (fun b => decide (n < b) && isHo (s 1) b && amF s n b) k = false →
          zwp (zcall ztb (d + 7)) t_X6_fewestMoves Q 63 [some (zR m), some (zI (4 * s 1 1)), some (zI n), some (zI k)] [] (mput H m (mset s 10 f)) := by
        have done : ∀ f, (isHo (s 1) n = false ∨ anyN (fun b => decide (n < b) && isHo (s 1) b && amF s n b) (4 * s 1 1).toNat = false) → zwp (zcall ztb (d + 7)) t_X6_fewestMoves Q 54 [some (zR m), some (zI (4 * s 1 1)), some (zI (n + 1 : Nat)), none] [] (mput H m (mset s 10 f)) := fun f e =>
          ih (n + 1) f (by omega) (by rw [anyN_s, hf]; rcases e with e | e <;> rw [e] <;> simp)
        intro q
        induction q with
        | zero =>
          intro k f hk1 hkq hfk
          apply bm_X6_fewestMoves_63 (d := d + 4) hM
          simp (disch := omega) only [zw_id]
          refine ⟨fun _ => done f (Or.inr (by rw [show (4 * s 1 1).toNat = k by omega]; exact hfk)), fun e => absurd e (by omega)⟩
        | succ q ih2 =>
          intro k f hk1 hkq hfk
          have step : (isHo (s 1) k = false ∨ amF s n k = false) → ∀ f, zwp (zcall ztb (d + 7)) t_X6_fewestMoves Q 63 [some (zR m), some (zI (4 * s 1 1)), some (zI n), some (zI (k + 1 : Nat))] [] (mput H m (mset s 10 f)) := fun e f =>
            ih2 (k + 1) f (by omega) (by omega) (by rw [anyN_s, hfk]; rcases e with e | e <;> rw [e] <;> simp)
          obtain ⟨j1, a1, u1, u2, u3, u4, u5, u6⟩ := jn n (by omega)
          obtain ⟨j2, a2, v1, v2, v3, v4, v5, v6⟩ := jn k (by omega)
          obtain ⟨b1, b2⟩ := hg.2.1 j1 u5
          obtain ⟨c1, c2⟩ := hg.2.1 j2 v5
          unfold jok at b1 c1
          have ho1 : isHo (s 1) n = (decide ((a1 : Int) < s 1 (96 + 32 * j1 + 4)) && hld (s 1) j1 a1) := by unfold isHo; rw [u3, u4]
          have ho2 : isHo (s 1) k = (decide ((a2 : Int) < s 1 (96 + 32 * j2 + 4)) && hld (s 1) j2 a2) := by unfold isHo; rw [v3, v4]
          apply bm_X6_fewestMoves_63 (d := d + 4) hM
          simp only [u1, u2, v1, v2, msn (show ¬ 1 = 10 by omega)]
          simp (disch := omega) only [zw_id, jx, jxa, Int.reduceToNat]
          refine ⟨fun e => absurd e (by omega), fun _ => ⟨by omega, fun e => done f (Or.inl ?_), fun e => ⟨by omega, fun e2 => done f (Or.inl ?_), fun e2 => ?_⟩⟩⟩
          · rw [ho1, decide_eq_false (by omega)]; rfl
          · rw [ho1]; unfold hld; simp [e2]
          have b2 := b2 a1 (by omega)
          unfold aok at b2
          simp (disch := omega) only [zw_id]
          refine ⟨by omega, fun e3 => done f (Or.inl ?_), fun e3 => ⟨by omega, fun e4 => step (Or.inl ?_) f, fun e4 => ⟨by omega, fun e5 => step (Or.inl ?_) f, fun e5 => ?_⟩⟩⟩
          · rw [ho1]; unfold hld; simp; intros; omega
          · rw [ho2, decide_eq_false (by omega)]; rfl
          · rw [ho2]; unfold hld; simp [e5]
          have c2 := c2 a2 (by omega)
          unfold aok at c2
          simp (disch := omega) only [zw_id]
          refine ⟨by omega, fun e6 => step (Or.inl ?_) f, fun e6 => ?_⟩
          · rw [ho2]; unfold hld; simp; intros; omega
          have t1 : isHo (s 1) n = true := by rw [ho1]; unfold hld; simp; omega
          have t2 : isHo (s 1) k = true := by rw [ho2]; unfold hld; simp; omega
          refine c_areMoved (d := d) (s := mset s 10 f) hM hg hk ha h1 h2 (Or.inr ⟨by omega, by show (n : Int) < 4 * s 1 1; omega, t1⟩) (Or.inr ⟨by omega, by show (k : Int) < 4 * s 1 1; omega, t2⟩) (fun f' => ?_)
          rw [amF_10, mset_mset]
          apply bm_X6_fewestMoves_90 (d := d + 4) hM
          simp only [zbit]
          refine ⟨fun e7 => step (Or.inr e7) f', fun e7 => ?_⟩
          have h := h f'
          unfold fmF at h
          rw [if_neg (by rw [g0]; decide), if_neg (by rw [g1]; decide), if_pos (anyN_iff.mpr ⟨n, by omega, by
            rw [t1, Bool.true_and]; exact anyN_iff.mpr ⟨k, by omega, by rw [t2, (by simpa using e7 : amF s n k = true), decide_eq_true (by omega)]; rfl⟩⟩)] at h
          exact h
      apply bm_X6_fewestMoves_54 (d := d + 4) hM
      simp (disch := omega) only [zw_id]
      refine ⟨fun e => absurd e (by omega), fun _ => l63 ((4 * s 1 1).toNat - (n + 1)) (n + 1) f (Nat.le_refl _) (by omega) (anyN_none fun i hi => ?_)⟩
      rw [decide_eq_false (by omega)]; rfl
  -- one of them
  have l22 : amF s (-1) (-1) = false → ∀ r n : Nat, ∀ f, (n : Int) + r = 4 * s 1 1 → anyN (fun a => isHo (s 1) a && amF s a (-1)) n = false →
      zwp (zcall ztb (d + 7)) t_X6_fewestMoves Q 22 [some (zR m), some (zI (4 * s 1 1)), some (zI n), none] [] (mput H m (mset s 10 f)) := by
    intro g0 r
    induction r with
    | zero =>
      intro n f hn hf
      apply bm_X6_fewestMoves_22 (d := d + 4) hM
      simp (disch := omega) only [zw_id]
      refine ⟨fun _ => l54 g0 (by rw [show (4 * s 1 1).toNat = n by omega]; exact hf) (4 * s 1 1).toNat 0 f (by omega) rfl, fun e => absurd e (by omega)⟩
    | succ r ih =>
      intro n f hn hf
      have step : (isHo (s 1) n = false ∨ amF s n (-1) = false) → ∀ f, zwp (zcall ztb (d + 7)) t_X6_fewestMoves Q 22 [some (zR m), some (zI (4 * s 1 1)), some (zI (n + 1 : Nat)), none] [] (mput H m (mset s 10 f)) := fun e f =>
        ih (n + 1) f (by omega) (by rw [anyN_s, hf]; rcases e with e | e <;> rw [e] <;> simp)
      obtain ⟨j1, a1, u1, u2, u3, u4, u5, u6⟩ := jn n (by omega)
      obtain ⟨b1, b2⟩ := hg.2.1 j1 u5
      unfold jok at b1
      have ho1 : isHo (s 1) n = (decide ((a1 : Int) < s 1 (96 + 32 * j1 + 4)) && hld (s 1) j1 a1) := by unfold isHo; rw [u3, u4]
      apply bm_X6_fewestMoves_22 (d := d + 4) hM
      simp only [u1, u2, msn (show ¬ 1 = 10 by omega)]
      simp (disch := omega) only [zw_id, jx, jxa, Int.reduceToNat]
      refine ⟨fun e => absurd e (by omega), fun _ => ⟨by omega, fun e => step (Or.inl ?_) f, fun e => ⟨by omega, fun e2 => step (Or.inl ?_) f, fun e2 => ?_⟩⟩⟩
      · rw [ho1, decide_eq_false (by omega)]; rfl
      · rw [ho1]; unfold hld; simp [e2]
      have b2 := b2 a1 (by omega)
      unfold aok at b2
      simp (disch := omega) only [zw_id]
      refine ⟨by omega, fun e3 => step (Or.inl ?_) f, fun e3 => ?_⟩
      · rw [ho1]; unfold hld; simp; intros; omega
      have t1 : isHo (s 1) n = true := by rw [ho1]; unfold hld; simp; omega
      refine c_areMoved (d := d) (s := mset s 10 f) hM hg hk ha h1 h2 (Or.inr ⟨by omega, by show (n : Int) < 4 * s 1 1; omega, t1⟩) (Or.inl rfl) (fun f' => ?_)
      rw [amF_10, mset_mset]
      apply bm_X6_fewestMoves_41 (d := d + 4) hM
      simp only [zbit]
      refine ⟨fun e7 => step (Or.inr e7) f', fun e7 => ?_⟩
      have h := h f'
      unfold fmF at h
      rw [if_neg (by rw [g0]; decide), if_pos (anyN_iff.mpr ⟨n, by omega, by rw [t1, (by simpa using e7 : amF s n (-1) = true)]; rfl⟩)] at h
      exact h
  apply bm_X6_fewestMoves (d := d + 4) hM
  refine c_areMoved (d := d) hM hg hk ha h1 h2 (Or.inl rfl) (Or.inl rfl) (fun f => ?_)
  apply bm_X6_fewestMoves_6 (d := d + 4) hM
  simp only [zbit, msn (show ¬ 1 = 10 by omega)]
  refine ⟨fun e => l22 e (4 * s 1 1).toNat 0 f (by omega) rfl, fun e => ?_⟩
  have h := h f
  unfold fmF at h
  rw [if_pos (by simpa using e)] at h
  exact h
/-! THE MODEL: two jobs together, orders, shrunk, holes -/
/-- the first job's arms hold from now on -/
def moreS (s : MS) (n : Nat) : MS := mset (mset s 11 (fun k => if k < n then cset (cov (s 10 k) (s 8 k)) else s 11 k)) 12 (fun k => if k < n then s 1 0 + s 9 k else s 12 k)
theorem moreS_s (s : MS) (n : Nat) : moreS s (n + 1) = mup (mup (moreS s n) 11 n (cset (cov (s 10 n) (s 8 n)))) 12 n (s 1 0 + s 9 n) := by
  funext k' i'
  unfold moreS mup mset
  by_cases h12 : k' = 12
  · subst h12
    simp
    by_cases hi : i' = n
    · subst hi; simp
    · rw [if_neg hi]
      by_cases hl : i' < n
      · rw [if_pos (by omega), if_pos hl]
      · rw [if_neg (by omega), if_neg hl]
  · by_cases h11 : k' = 11
    · subst h11
      simp
      by_cases hi : i' = n
      · subst hi; simp
      · rw [if_neg hi]
        by_cases hl : i' < n
        · rw [if_pos (by omega), if_pos hl]
        · rw [if_neg (by omega), if_neg hl]
    · simp [h11, h12]
theorem moreS_0 (s : MS) : moreS s 0 = s := by
  unfold moreS
  rw [show (fun k => if k < 0 then cset (cov (s 10 k) (s 8 k)) else s 11 k) = s 11 from funext fun k => if_neg (by omega), mset_self, show (fun k => if k < 0 then s 1 0 + s 9 k else s 12 k) = s 12 from funext fun k => if_neg (by omega), mset_self]
theorem moreS_o {s : MS} {n k : Nat} (h : k ≠ 11) (h2 : k ≠ 12) : moreS s n k = s k := by unfold moreS; rw [msn h2, msn h]
theorem moreS_11 {s : MS} {n k : Nat} (h : k < n) : moreS s n 11 k = cset (cov (s 10 k) (s 8 k)) := by unfold moreS; rw [msn (by omega), mse, if_pos h]
theorem moreS_12 {s : MS} {n k : Nat} (h : k < n) : moreS s n 12 k = s 1 0 + s 9 k := by unfold moreS; rw [mse, if_pos h]
theorem psame_refl (s : MS) : psame s s := ⟨rfl, ⟨rfl, rfl, rfl, rfl, rfl, rfl, rfl⟩, fun _ _ => ⟨rfl, rfl⟩, fun _ _ => ⟨rfl, rfl⟩⟩
/-- whether b finds place behind a, of the state in which both are skipped -/
def sk2 (G : Nat → Int) (a b : Nat) : MS := mset (cm G) 0 (zupd (zupd (cm G 0) 114 a) 115 b)
def bothS (G : Nat → Int) (a b p q : Nat) : MS :=
  let s1 := tkS (sk2 G p q) a
  let s2 := moreS (mset s1 10 (fitF s1 (G 0))) (armd G a)
  tkS (mset s2 0 (zupd (s2 0) 118 (armd G a))) b
def bothF (G : Nat → Int) (a b p q : Nat) : Bool := fitOK (tkS (sk2 G p q) a) (G 0) && fitOK (bothS G a b p q) (G 0)
/-- the same as tk_same, of states with other skips -/
theorem tk_same2 {s s' : MS} {j : Nat} (e : s 1 = s' 1) (e4 : s 0 114 = s' 0 114) (e5 : s 0 115 = s' 0 115) (e6 : s 0 116 = s' 0 116) (e7 : s 0 117 = s' 0 117) (e8 : s 0 118 = s' 0 118)
    (hm : ∀ k : Nat, (k : Int) < s 0 118 → s 11 k = s' 11 k ∧ s 12 k = s' 12 k) : psame (tkS s j) (tkS s' j) := by
  unfold psame
  rw [tkS_1, tkS_1, tkS_109, tkS_109, tkS_110, tkS_110, tkS_k _ _ _ (by omega) (by omega), tkS_k _ _ _ (by omega) (by omega), tkS_k _ _ _ (by omega) (by omega), tkS_k _ _ _ (by omega) (by omega), tkS_k _ _ _ (by omega) (by omega),
    tkS_k _ _ _ (by omega) (by omega), tkS_k _ _ _ (by omega) (by omega), tkS_k _ _ _ (by omega) (by omega), tkS_k _ _ _ (by omega) (by omega), tkS_k _ _ _ (by omega) (by omega), e]
  refine ⟨rfl, ⟨rfl, rfl, e4, e5, e6, e7, e8⟩, fun k hk => ?_, fun k hk => ?_⟩
  · rw [tkS_8 s j (by rw [e]; exact hk), tkS_9 s j (by rw [e]; exact hk), tkS_8 s' j hk, tkS_9 s' j hk, e]
    exact ⟨rfl, rfl⟩
  · rw [tkS_o (by omega) (by omega) (by omega), tkS_o (by omega) (by omega) (by omega), tkS_o (by omega) (by omega) (by omega), tkS_o (by omega) (by omega) (by omega)]
    exact hm k hk
/-- what both do with the state: the row and what is laid by stay -/
def fr2 (s s' : MS) : Prop := (∀ k, k = 1 ∨ k = 2 ∨ k = 3 ∨ 4 ≤ k ∧ k ≤ 7 ∨ 13 ≤ k → s' k = s k) ∧ ∀ i, i ≠ 109 → i ≠ 110 → i ≠ 118 → s' 0 i = s 0 i
theorem c_fitBoth {d : Nat} {Q : ZQ} {H : ZH} {m : Nat} {s : MS} {a b p q : Nat} (hM : MI H m) (hg : gok (s 1)) (ha : (a : Int) < s 1 1) (hb : (b : Int) < s 1 1) (h4 : s 0 114 = p) (h5 : s 0 115 = q) (hp : p < 100) (hq : q < 100) (h6 : s 0 116 = -1) (h7 : s 0 117 = -1) (h8 : s 0 118 = 0)
    (h : ∀ s', fr2 s s' → s' 0 118 = 0 → Q [zI (if bothF (s 1) a b p q = true then 1 else 0)] (mput H m s')) : zcall ztb (d + 6) mX6_fitBoth [zR m, zI a, zI b] (mput H m s) Q := by
  have hh := hg.1
  unfold hok at hh
  have hk : skok s := by
    unfold skok
    rw [h4, h5, h6, h7, h8]
    exact ⟨by omega, by omega, by omega, by omega, by omega, fun k hk => by omega⟩
  have hk1 : skok (tkS s a) := by
    unfold skok
    rw [tkS_k _ _ _ (by omega) (by omega), tkS_k _ _ _ (by omega) (by omega), tkS_k _ _ _ (by omega) (by omega), tkS_k _ _ _ (by omega) (by omega), tkS_k _ _ _ (by omega) (by omega), tkS_o (by omega) (by omega) (by omega), tkS_o (by omega) (by omega) (by omega)]
    exact hk
  have ham := tkS_am (s := s) (j := a) hg ha
  obtain ⟨b1, b2⟩ := hg.2.1 a ha
  unfold jok at b1
  have h110 : tkS s a 0 110 = s 1 (96 + 32 * a + 4) := tkS_110 _ _
  have sk0 : ∀ i, sk2 (s 1) p q 0 i = if i = 115 then (q : Int) else if i = 114 then (p : Int) else if 114 ≤ i ∧ i < 118 then -1 else 0 := fun i => rfl
  have hps : psame (tkS s a) (tkS (sk2 (s 1) p q) a) := tk_same2 rfl (by rw [h4]; rfl) (by rw [h5]; rfl) (by rw [h6]; rfl) (by rw [h7]; rfl) (by rw [h8]; rfl) (fun k hk => by omega)
  have hft := fitOK_same hps (by omega) (s 1 0)
  apply bm_X6_fitBoth (d := d + 4) hM
  refine c_takes (d := d + 3) hM hg ha ?_
  apply bm_X6_fitBoth_5 (d := d + 4) hM
  rw [tkS_1]
  refine c_fits (d := d + 1) (s := tkS s a) hM hg hk1 ham (by omega) (fun hf f hff => ?_) (fun hf f => ?_)
  · rw [hft.1] at hf
    rw [hft.2] at hff
    have hff : ∀ k : Nat, (k : Int) < s 1 (96 + 32 * a + 4) → f k = fitF (tkS (sk2 (s 1) p q) a) (s 1 0) k := fun k hk => hff k (by rw [h110]; exact hk)
    have hfr : ∀ k : Nat, (k : Int) < s 1 (96 + 32 * a + 4) → 0 ≤ f k ∧ f k + s 1 (96 + 32 * a + (12 + k)) ≤ 16 := fun k hk => by
      have := fitF_r (s := tkS (sk2 (s 1) p q) a) (t := s 1 0) (tkS_am (s := sk2 (s 1) p q) hg ha) hf (a := k) (by rw [tkS_110]; exact hk)
      rw [tkS_8 _ _ (show (k : Int) < sk2 (s 1) p q 1 (96 + 32 * a + 4) from hk)] at this
      rw [hff k hk]; exact this
    apply bm_X6_fitBoth_15 (d := d + 4) hM
    simp (disch := omega) only [zw_id]
    refine ⟨fun _ => ?_, fun e => absurd (by decide) e⟩
    have main : ∀ r n : Nat, (n : Int) + r = s 1 (96 + 32 * a + 4) → zwp (zcall ztb (d + 5)) t_X6_fitBoth Q 22 [some (zR m), none, some (zI b), some (zI n)] [] (mput H m (moreS (mset (tkS s a) 10 f) n)) := by
      intro r
      induction r with
      | zero =>
        intro n hn
        have n4 : n = armd (s 1) a := by unfold armd; omega
        have e0 : ∀ i, i ≠ 109 → i ≠ 110 → moreS (mset (tkS s a) 10 f) n 0 i = s 0 i := fun i i1 i2 => by
          rw [moreS_o (by omega) (by omega), msn (by omega), tkS_k _ _ _ i1 i2]
        have e110 : moreS (mset (tkS s a) 10 f) n 0 110 = n := by rw [moreS_o (by omega) (by omega), msn (by omega), h110]; omega
        have e1 : moreS (mset (tkS s a) 10 f) n 1 = s 1 := rfl
        apply bm_X6_fitBoth_22 (d := d + 4) hM
        simp (disch := omega) only [zw_id, e110]
        refine ⟨fun _ => ?_, fun e => absurd e (by omega)⟩
        rw [mup_mset]
        refine c_takes (d := d + 3) (s := mset (moreS (mset (tkS s a) 10 f) n) 0 (zupd (moreS (mset (tkS s a) 10 f) n 0) 118 n)) hM hg hb ?_
        apply bm_X6_fitBoth_89 (d := d + 4) hM
        rw [tkS_1, show mset (moreS (mset (tkS s a) 10 f) n) 0 (zupd (moreS (mset (tkS s a) 10 f) n 0) 118 n) 1 = s 1 from rfl]
        have am2 : ∀ k : Nat, k < n → moreS (mset (tkS s a) 10 f) n 11 k = cset (cov (f k) (s 1 (96 + 32 * a + (12 + k)))) ∧ moreS (mset (tkS s a) 10 f) n 12 k = s 1 0 + s 1 (96 + 32 * a + (16 + k)) := fun k hk => by
          have hk' : (k : Int) < s 1 (96 + 32 * a + 4) := by omega
          rw [moreS_11 hk, moreS_12 hk, mse, show mset (tkS s a) 10 f 8 = tkS s a 8 from rfl, show mset (tkS s a) 10 f 9 = tkS s a 9 from rfl, tkS_8 _ _ hk', tkS_9 _ _ hk']
          exact ⟨rfl, rfl⟩
        have hk2 : skok (tkS (mset (moreS (mset (tkS s a) 10 f) n) 0 (zupd (moreS (mset (tkS s a) 10 f) n 0) 118 n)) b) := by
          unfold skok
          rw [tkS_k _ _ _ (by omega) (by omega), tkS_k _ _ _ (by omega) (by omega), tkS_k _ _ _ (by omega) (by omega), tkS_k _ _ _ (by omega) (by omega), tkS_k _ _ _ (by omega) (by omega), tkS_o (by omega) (by omega) (by omega), tkS_o (by omega) (by omega) (by omega)]
          rw [mse, msn (show ¬ 11 = 0 by omega), msn (show ¬ 12 = 0 by omega), ude, udn (by omega), udn (by omega), udn (by omega), udn (by omega), e0 114 (by omega) (by omega), e0 115 (by omega) (by omega), e0 116 (by omega) (by omega), e0 117 (by omega) (by omega), h4, h5, h6, h7]
          refine ⟨by omega, by omega, by omega, by omega, by omega, fun k hk => ?_⟩
          have b2 := b2 k (by omega)
          unfold aok at b2
          have := am2 k (by omega)
          rw [this.1, this.2]
          have := cset_lt (cov (f k) (s 1 (96 + 32 * a + (12 + k))))
          omega
        have hps2 : psame (tkS (mset (moreS (mset (tkS s a) 10 f) n) 0 (zupd (moreS (mset (tkS s a) 10 f) n 0) 118 n)) b) (bothS (s 1) a b p q) := by
          unfold bothS
          refine tk_same2 rfl ?_ ?_ ?_ ?_ ?_ (fun k hk => ?_)
          · rw [mse, udn (by omega), e0 114 (by omega) (by omega), h4]; rfl
          · rw [mse, udn (by omega), e0 115 (by omega) (by omega), h5]; rfl
          · rw [mse, udn (by omega), e0 116 (by omega) (by omega), h6]; rfl
          · rw [mse, udn (by omega), e0 117 (by omega) (by omega), h7]; rfl
          · rw [mse, ude, n4]; rfl
          · rw [mse, ude] at hk
            have q1 := am2 k (by omega)
            have hk' : (k : Int) < s 1 (96 + 32 * a + 4) := by omega
            have hk2 : k < armd (s 1) a := by omega
            have hk3 : (k : Int) < sk2 (s 1) p q 1 (96 + 32 * a + 4) := hk'
            refine ⟨?_, ?_⟩
            · rw [show mset (moreS (mset (tkS s a) 10 f) n) 0 (zupd (moreS (mset (tkS s a) 10 f) n 0) 118 n) 11 = moreS (mset (tkS s a) 10 f) n 11 from rfl, q1.1]
              show _ = moreS (mset (tkS (sk2 (s 1) p q) a) 10 (fitF (tkS (sk2 (s 1) p q) a) (s 1 0))) (armd (s 1) a) 11 k
              rw [moreS_11 hk2, mse, show ∀ g, mset (tkS (sk2 (s 1) p q) a) 10 g 8 = tkS (sk2 (s 1) p q) a 8 from fun g => rfl, tkS_8 _ _ hk3, hff k hk']
              rfl
            · rw [show mset (moreS (mset (tkS s a) 10 f) n) 0 (zupd (moreS (mset (tkS s a) 10 f) n 0) 118 n) 12 = moreS (mset (tkS s a) 10 f) n 12 from rfl, q1.2]
              show _ = moreS (mset (tkS (sk2 (s 1) p q) a) 10 (fitF (tkS (sk2 (s 1) p q) a) (s 1 0))) (armd (s 1) a) 12 k
              rw [moreS_12 hk2, show ∀ g, mset (tkS (sk2 (s 1) p q) a) 10 g 9 = tkS (sk2 (s 1) p q) a 9 from fun g => rfl, tkS_9 _ _ hk3]
              rfl
        have ham2 := tkS_am (s := mset (moreS (mset (tkS s a) 10 f) n) 0 (zupd (moreS (mset (tkS s a) 10 f) n 0) 118 n)) (j := b) hg hb
        have hft2 := fitOK_same hps2 ham2.2.1.1 (s 1 0)
        have fin : ∀ v : Int, ∀ f', v = (if fitOK (bothS (s 1) a b p q) (s 1 0) = true then 1 else 0) →
            zwp (zcall ztb (d + 5)) t_X6_fitBoth Q 99 [some (zR m), none, none, none] [zI v] (mput H m (mset (tkS (mset (moreS (mset (tkS s a) 10 f) n) 0 (zupd (moreS (mset (tkS s a) 10 f) n 0) 118 n)) b) 10 f')) := by
          intro v f' hv
          apply bm_X6_fitBoth_99 (d := d + 4) hM
          refine ⟨by rw [hv]; split <;> simp, ?_⟩
          rw [hv]
          have hB : bothF (s 1) a b p q = fitOK (bothS (s 1) a b p q) (s 1 0) := by unfold bothF; rw [hf, Bool.true_and]
          rw [hB] at h
          rw [mup_mset]
          refine h _ ⟨fun k hk => ?_, fun i i1 i2 i3 => ?_⟩ ?_
          · rw [msn (by omega), msn (by omega), tkS_o (by omega) (by omega) (by omega), msn (by omega), moreS_o (by omega) (by omega), msn (by omega), tkS_o (by omega) (by omega) (by omega)]
          · rw [mse, udn i3, msn (by omega), tkS_k _ _ _ i1 i2, mse, udn i3, e0 i i1 i2]
          · rw [mse, ude]
        refine c_fits (d := d + 1) (s := tkS (mset (moreS (mset (tkS s a) 10 f) n) 0 (zupd (moreS (mset (tkS s a) 10 f) n 0) 118 n)) b) hM hg hk2 ham2 (by omega) (fun hf2 f' _ => ?_) (fun hf2 f' => ?_)
        · rw [hft2.1] at hf2
          exact fin 1 f' (by rw [if_pos hf2])
        · rw [hft2.1] at hf2
          exact fin 0 f' (by rw [if_neg (by rw [hf2]; decide)])
      | succ r ih =>
        intro n hn
        have ih := ih (n + 1) (by omega)
        have b2 := b2 n (by omega)
        unfold aok at b2
        have hfn := hfr n (by omega)
        have e8 : mset (tkS s a) 10 f 8 n = s 1 (96 + 32 * a + (12 + n)) := by rw [msn (by omega), tkS_8 _ _ (by omega)]
        have e9 : mset (tkS s a) 10 f 9 n = s 1 (96 + 32 * a + (16 + n)) := by rw [msn (by omega), tkS_9 _ _ (by omega)]
        have e1 : mset (tkS s a) 10 f 1 = s 1 := rfl
        rw [moreS_s, e8, e9, e1, mse] at ih
        have e110 : moreS (mset (tkS s a) 10 f) n 0 110 = s 1 (96 + 32 * a + 4) := by rw [moreS_o (by omega) (by omega), msn (by omega), h110]
        have m8 : moreS (mset (tkS s a) 10 f) n 8 n = s 1 (96 + 32 * a + (12 + n)) := by rw [moreS_o (by omega) (by omega)]; exact e8
        have m9 : moreS (mset (tkS s a) 10 f) n 9 n = s 1 (96 + 32 * a + (16 + n)) := by rw [moreS_o (by omega) (by omega)]; exact e9
        have m10 : moreS (mset (tkS s a) 10 f) n 10 n = f n := by rw [moreS_o (by omega) (by omega), mse]
        have m1 : moreS (mset (tkS s a) 10 f) n 1 = s 1 := rfl
        apply bm_X6_fitBoth_22 (d := d + 4) hM
        simp (disch := omega) only [zw_id, e110, Int.toNat_natCast, m8, m9, m10, m1]
        rw [cset_cov (by omega) (by omega) (by omega)]
        exact ⟨fun e => absurd e (by omega), fun _ => ⟨by omega, by omega, by omega, by omega, by omega, ih⟩⟩
    have m0 := main (s 1 (96 + 32 * a + 4)).toNat 0 (by omega)
    rw [moreS_0] at m0
    exact m0
  · rw [hft.1] at hf
    apply bm_X6_fitBoth_15 (d := d + 4) hM
    simp (disch := omega) only [zw_id]
    refine ⟨fun e => absurd (by decide) e, fun _ => ?_⟩
    have hB : bothF (s 1) a b p q = false := by unfold bothF; rw [hf, Bool.false_and]
    rw [hB] at h
    refine h _ ⟨fun k hk => ?_, fun i i1 i2 i3 => ?_⟩ ?_
    · rw [msn (by omega), tkS_o (by omega) (by omega) (by omega)]
    · rw [msn (by omega), tkS_k _ _ _ i1 i2]
    · rw [msn (by omega), tkS_k _ _ _ (by omega) (by omega), h8]
/-! THE MODEL: orders, shrunk, holes, counts -/
def wyF (s : MS) (t : Int) : Nat → (Nat → Bool) → (Nat → Bool) → Int
  | 0, _, _ => 1
  | f + 1, pl, own => sumN (fun a => if pl a = true then 0 else
      if plc (fun c => bz s t (t + s 9 a) (s 0 109) c || own c) (s 8 a) < 0 then 0
      else wyF s t f (fun k => pl k || decide (k = a)) (fun c => own c || cov (plc (fun c => bz s t (t + s 9 a) (s 0 109) c || own c) (s 8 a)) (s 8 a) c)) (s 0 110).toNat
theorem cset_inj {p q : Nat → Bool} (h : cset p = cset q) : ∀ c, c < 16 → p c = q c := fun c hc => by
  rw [← csb_cset (p := p) hc, ← csb_cset (p := q) hc, h]
theorem csfull : ∀ n : Nat, n ≤ 4 → zw (zshl 1 (n : Int) - 1) = cset (fun a => decide (a < n)) := by
  intro n hn
  rcases (by omega : n = 0 ∨ n = 1 ∨ n = 2 ∨ n = 3 ∨ n = 4) with e | e | e | e | e <;> subst e <;> decide
theorem wy_b {s : MS} {t : Int} (hn : s 0 110 ≤ 4) : ∀ (f : Nat) (pl own : Nat → Bool), 0 ≤ wyF s t f pl own ∧ wyF s t f pl own ≤ 4 ^ f
  | 0, pl, own => by rw [wyF]; omega
  | f + 1, pl, own => by
    rw [wyF]
    have := sumN_le (f := fun a => if pl a = true then 0 else
      if plc (fun c => bz s t (t + s 9 a) (s 0 109) c || own c) (s 8 a) < 0 then 0
      else wyF s t f (fun k => pl k || decide (k = a)) (fun c => own c || cov (plc (fun c => bz s t (t + s 9 a) (s 0 109) c || own c) (s 8 a)) (s 8 a) c)) (b := 4 ^ f) (n := (s 0 110).toNat) (fun i _ => by
        have hb := wy_b (t := t) hn f (fun k => pl k || decide (k = i)) (fun c => own c || cov (plc (fun c => bz s t (t + s 9 i) (s 0 109) c || own c) (s 8 i)) (s 8 i) c)
        have hp : (0 : Int) ≤ 4 ^ f := Int.pow_nonneg (by omega)
        split
        · omega
        · split
          · omega
          · exact hb)
    refine ⟨this.1, Int.le_trans this.2 ?_⟩
    rw [Int.pow_succ, Int.mul_comm]
    exact Int.mul_le_mul_of_nonneg_left (by omega) (Int.pow_nonneg (by omega))
theorem c_ways {H : ZH} {m : Nat} (hM : MI H m) : ∀ (f d : Nat) {Q : ZQ} {s : MS} {t : Int} {pl own : Nat → Bool}, gok (s 1) → skok s → amok s → (0 ≤ t ∧ t ≤ 1000000) → (∀ a, pl a = true → (a : Int) < s 0 110) → cntN pl (s 0 110).toNat + f = (s 0 110).toNat →
    Q [zI (wyF s t f pl own)] (mput H m s) → zcall ztb (d + f + 4) mX6_ways [zR m, zI t, zI (cset pl), zI (cset own)] (mput H m s) Q := by
  intro f
  induction f with
  | zero =>
    intro d Q s t pl own hg hk ha ht hp hc h
    obtain ⟨ha1, ha2, ha3⟩ := ha
    obtain ⟨n, hn⟩ := Int.eq_ofNat_of_zero_le ha2.1
    apply bm_X6_ways (d := d + 2) hM
    rw [zw_cset, hn, csfull n (by omega)]
    have hfull : cset pl = cset (fun a => decide (a < n)) := cset_congr fun c hc16 => by
      rw [hn] at hp hc
      by_cases q : c < n
      · rw [decide_eq_true q]; exact cntN_full (by simpa using hc) c q
      · rw [decide_eq_false q]
        cases e : pl c with
        | false => rfl
        | true => have := hp c e; omega
    exact ⟨fun e => absurd hfull e, fun _ => h⟩
  | succ f ih =>
    intro d Q s t pl own hg hk ha ht hp hc h
    have ha' := ha
    obtain ⟨ha1, ha2, ha3⟩ := ha'
    obtain ⟨n, hn⟩ := Int.eq_ofNat_of_zero_le ha2.1
    have hnot : ¬ cset pl = cset (fun a => decide (a < n)) := fun e => by
      have := cset_inj e
      rw [hn, Int.toNat_natCast] at hc
      have h1 : cntN pl n = n := cntN_all fun b hb => by rw [this b (by omega)]; simpa using hb
      omega
    have main : ∀ r a : Nat, ∀ x : Int, (a : Int) + r = s 0 110 → x = sumN (fun a => if pl a = true then 0 else
        if plc (fun c => bz s t (t + s 9 a) (s 0 109) c || own c) (s 8 a) < 0 then 0
        else wyF s t f (fun k => pl k || decide (k = a)) (fun c => own c || cov (plc (fun c => bz s t (t + s 9 a) (s 0 109) c || own c) (s 8 a)) (s 8 a) c)) a →
        zwp (zcall ztb (d + f + 4)) t_X6_ways Q 20 [some (zR m), some (zI t), some (zI (cset pl)), some (zI (cset own)), some (zI x), some (zI a), none] [] (mput H m s) := by
      intro r
      induction r with
      | zero =>
        intro a x har hx
        apply bm_X6_ways_20 (d := d + f + 3) hM
        simp (disch := omega) only [zw_id]
        refine ⟨fun _ => ?_, fun e => absurd e (by omega)⟩
        rw [wyF] at h
        rw [show (s 0 110).toNat = a by omega] at h
        rw [hx]; exact h
      | succ r ih2 =>
        intro a x har hx
        have h3 := ha3 a (by omega)
        have ih2 := fun x => ih2 (a + 1) x (by omega)
        rw [sumN_s] at ih2
        apply bm_X6_ways_20 (d := d + f + 3) hM
        simp (disch := omega) only [zw_id, csz, Int.toNat_natCast]
        refine ⟨fun e => absurd e (by omega), fun _ => ⟨fun e => ?_, fun e => ⟨by omega, ?_⟩⟩⟩
        · refine ih2 x ?_
          rw [if_pos (by simpa using e), hx, Int.add_zero]
        · have hpa : pl a = false := Classical.not_not.mp e
          refine c_busy (d := d + f + 1) hM hg hk (by omega) (by omega) (by omega) ?_
          apply bm_X6_ways_59 (d := d + f + 3) hM
          simp (disch := omega) only [Int.toNat_natCast]
          refine ⟨by omega, ?_⟩
          rw [cset_or]
          refine c_X6_place (d := d + f + 3) (by omega) ?_
          have hr := plc_r (fun c => bz s t (t + s 9 a) (s 0 109) c || own c) (s 8 a)
          apply bm_X6_ways_71 (d := d + f + 3) hM
          simp (disch := omega) only [zw_id, Int.toNat_natCast]
          refine ⟨fun e2 => ⟨by omega, ?_⟩, fun e2 => ?_⟩
          · have e1 : zor (cset own) (zshl (zshl 1 (s 8 a) - 1) (plc (fun c => bz s t (t + s 9 a) (s 0 109) c || own c) (s 8 a))) = cset (fun c => own c || cov (plc (fun c => bz s t (t + s 9 a) (s 0 109) c || own c) (s 8 a)) (s 8 a) c) := by
              rw [cset_cov (by omega) (by omega) (by omega), cset_or]
            have e3 : zor (cset pl) (zshl 1 (a : Int)) = cset (fun k => pl k || decide (k = a)) := by
              rw [cov1 (by omega), cset_or]
            rw [e1, e3]
            refine ih d hg hk ha ht (fun k hk2 => ?_) ?_ ?_
            · simp only [Bool.or_eq_true, decide_eq_true_eq] at hk2
              rcases hk2 with q | q
              · exact hp k q
              · omega
            · rw [cntN_add hpa, if_pos (by omega)]; omega
            · apply bm_X6_ways_109 (d := d + f + 3) hM
              refine ih2 _ ?_
              rw [if_neg (by rw [hpa]; decide), if_neg (by omega), hx]
          · refine ih2 _ ?_
            rw [if_neg (by rw [hpa]; decide), if_pos (by omega), hx]
    apply bm_X6_ways (d := d + f + 3) hM
    rw [zw_cset, hn, csfull n (by omega)]
    exact ⟨fun _ => main (s 0 110).toNat 0 0 (by omega) rfl, fun e => absurd hnot e⟩
/-- the arms of job j ask but p parts of a hundred -/
def shS (s : MS) (p : Int) (n : Nat) : MS := mset s 9 (fun a => if a < n then max 1 (s 9 a * p / 100) else s 9 a)
theorem shS_s (s : MS) (p : Int) (n : Nat) : shS s p (n + 1) = mup (shS s p n) 9 n (max 1 (s 9 n * p / 100)) := by
  funext k' i'
  unfold shS mup mset
  by_cases h9 : k' = 9
  · subst h9
    simp
    by_cases hi : i' = n
    · subst hi; simp
    · rw [if_neg hi]
      by_cases hl : i' < n
      · rw [if_pos (by omega), if_pos hl]
      · rw [if_neg (by omega), if_neg hl]
  · simp [h9]
theorem shS_0 (s : MS) (p : Int) : shS s p 0 = s := by
  unfold shS; rw [show (fun a => if a < 0 then max 1 (s 9 a * p / 100) else s 9 a) = s 9 from funext fun a => if_neg (by omega), mset_self]
/-- the state in which one job's promise is skipped -/
def sk1 (G : Nat → Int) (j : Nat) : MS := mset (cm G) 0 (zupd (cm G 0) 114 j)
def shP (G : Nat → Int) (j : Nat) (p : Int) : Bool := fitOK (shS (tkS (sk1 G j) j) p (armd G j)) (G 0)
/-- the greatest part of a hundred that fits, from n on downward; none -/
def shF2 (G : Nat → Int) (j : Nat) : Nat → Int
  | 0 => -2
  | p + 1 => if shP G j (p + 1 : Nat) = true then (p + 1 : Nat) else shF2 G j p
theorem c_shrunk {d : Nat} {Q : ZQ} {H : ZH} {m : Nat} {s : MS} {j : Nat} (hM : MI H m) (hg : gok (s 1)) (hr : rest s) (hj : (j : Int) < s 1 1) (hw : s 1 (96 + 32 * j + 5) = 0)
    (h : ∀ s', fr s s' → s' 1 = s 1 → s' 4 = s 4 → Q [zI (shF2 (s 1) j 100)] (mput H m s')) : zcall ztb (d + 5) mX6_shrunk [zR m, zI j] (mput H m s) Q := by
  have hh := hg.1
  unfold hok at hh
  obtain ⟨b1, b2⟩ := hg.2.1 j hj
  unfold jok at b1
  generalize hR : shF2 (s 1) j 100 = R at h
  have main : ∀ p : Nat, p ≤ 100 → ∀ s' : MS, (∀ k, k ≠ 0 → k ≠ 8 → k ≠ 9 → k ≠ 10 → s' k = s k) → (∀ i, i ≠ 109 → i ≠ 110 → i ≠ 114 → s' 0 i = s 0 i) → s' 0 114 = j →
      R = shF2 (s 1) j p → zwp (zcall ztb (d + 4)) t_X6_shrunk Q 25 [some (zR m), some (zI j), some (zI (-2)), some (zI p), none] [] (mput H m s') ∧
      (∀ v : Int, 0 ≤ v → v ≤ 100 → R = v → ∀ x, -1 ≤ x → x ≤ 100 → zwp (zcall ztb (d + 4)) t_X6_shrunk Q 25 [some (zR m), some (zI j), some (zI v), some (zI x), none] [] (mput H m s')) := by
    have fin : ∀ s' : MS, (∀ k, k ≠ 0 → k ≠ 8 → k ≠ 9 → k ≠ 10 → s' k = s k) → (∀ i, i ≠ 109 → i ≠ 110 → i ≠ 114 → s' 0 i = s 0 i) → ∀ v, R = v → Q [zI v] (mput H m (mup s' 0 114 (-1))) := by
      intro s' f1 f2 v hv
      rw [hv] at h
      rw [mup_mset]
      refine h _ ⟨fun k hk => ?_, fun i i1 i2 => ?_⟩ ?_ ?_
      · rw [msn (by omega)]; exact f1 k (by omega) (by omega) (by omega) (by omega)
      · rw [mse]
        by_cases e : i = 114
        · subst e; rw [ude]; exact hr.1.symm
        · rw [udn e]; exact f2 i i1 i2 e
      · rw [msn (by omega)]; exact f1 1 (by omega) (by omega) (by omega) (by omega)
      · rw [msn (by omega)]; exact f1 4 (by omega) (by omega) (by omega) (by omega)
    intro p
    induction p with
    | zero =>
      intro hp s' f1 f2 f3 hv
      refine ⟨?_, fun v v1 v2 hv x x1 x2 => ?_⟩
      · apply bm_X6_shrunk_25 (d := d + 1) hM
        exact ⟨fun _ => fin s' f1 f2 _ hv, fun e => absurd (by decide) e⟩
      · apply bm_X6_shrunk_25 (d := d + 1) hM
        simp (disch := omega) only [zw_id]
        exact ⟨fun _ => fin s' f1 f2 _ hv, fun _ => ⟨fun _ => fin s' f1 f2 _ hv, fun e => absurd v1 e⟩⟩
    | succ p ih =>
      intro hp s' f1 f2 f3 hv
      refine ⟨?_, fun v v1 v2 hv x x1 x2 => ?_⟩
      · have g1 : s' 1 = s 1 := f1 1 (by omega) (by omega) (by omega) (by omega)
        have hg' : gok (s' 1) := by rw [g1]; exact hg
        have hj' : (j : Int) < s' 1 1 := by rw [g1]; exact hj
        rw [shF2] at hv
        apply bm_X6_shrunk_25 (d := d + 1) hM
        simp (disch := omega) only [zw_id]
        refine ⟨fun e => absurd e (by omega), fun _ => ⟨fun e => absurd e (by decide), fun _ => ?_⟩⟩
        refine c_takes (d := d + 2) hM hg' hj' ?_
        apply bm_X6_shrunk_39 (d := d + 1) hM
        have ham := tkS_am (s := s') (j := j) hg' hj'
        have h110 : tkS s' j 0 110 = s' 1 (96 + 32 * j + 4) := tkS_110 _ _
        have l42 : ∀ r n : Nat, (n : Int) + r = s' 1 (96 + 32 * j + 4) → zwp (zcall ztb (d + 4)) t_X6_shrunk Q 42 [some (zR m), some (zI j), none, some (zI (p + 1 : Nat)), some (zI n)] [] (mput H m (shS (tkS s' j) (p + 1 : Nat) n)) := by
          intro r
          induction r with
          | zero =>
            intro n hn
            have e0 : ∀ i, shS (tkS s' j) (p + 1 : Nat) n 0 i = tkS s' j 0 i := fun i => rfl
            have e1 : shS (tkS s' j) (p + 1 : Nat) n 1 = s' 1 := rfl
            have sk : skok (shS (tkS s' j) (p + 1 : Nat) n) := by
              unfold skok
              obtain ⟨r1, r2, r3, r4, r5⟩ := hr
              rw [e0, e0, e0, e0, e0, tkS_k _ _ _ (by omega) (by omega), tkS_k _ _ _ (by omega) (by omega), tkS_k _ _ _ (by omega) (by omega), tkS_k _ _ _ (by omega) (by omega), tkS_k _ _ _ (by omega) (by omega), f3, f2 115 (by omega) (by omega) (by omega), f2 116 (by omega) (by omega) (by omega), f2 117 (by omega) (by omega) (by omega), f2 118 (by omega) (by omega) (by omega), r2, r3, r4, r5]
              exact ⟨by omega, by omega, by omega, by omega, by omega, fun k hk => by omega⟩
            have am : amok (shS (tkS s' j) (p + 1 : Nat) n) := by
              obtain ⟨q1, q2, q3⟩ := ham
              refine ⟨q1, q2, fun k hk => ?_⟩
              have q3 := q3 k hk
              refine ⟨q3.1, ?_⟩
              have ml := mulb (show 0 ≤ tkS s' j 9 k by omega) q3.2.2 (show (0 : Int) ≤ (p + 1 : Nat) by omega) (show ((p + 1 : Nat) : Int) ≤ 100 by omega)
              unfold shS
              rw [mse]
              split <;> omega
            have hps : psame (shS (tkS s' j) (p + 1 : Nat) n) (shS (tkS (sk1 (s 1) j) j) (p + 1 : Nat) (armd (s 1) j)) := by
              obtain ⟨r1, r2, r3, r4, r5⟩ := hr
              have t := tk_same2 (s := s') (s' := sk1 (s 1) j) (j := j) g1 (by rw [f3]; rfl) (by rw [f2 115 (by omega) (by omega) (by omega), r2]; rfl) (by rw [f2 116 (by omega) (by omega) (by omega), r3]; rfl) (by rw [f2 117 (by omega) (by omega) (by omega), r4]; rfl) (by rw [f2 118 (by omega) (by omega) (by omega), r5]; rfl) (fun k hk => by rw [f2 118 (by omega) (by omega) (by omega), r5] at hk; omega)
              obtain ⟨t1, t2, t3, t4⟩ := t
              refine ⟨t1, t2, fun k hk => ⟨(t3 k hk).1, ?_⟩, t4⟩
              have hk' : (k : Int) < s' 1 (96 + 32 * j + 4) := by have : (k : Int) < tkS s' j 0 110 := hk; rw [h110] at this; exact this
              unfold shS
              rw [mse, mse, if_pos (by omega), if_pos (by unfold armd; rw [g1] at hk'; omega), (t3 k hk).2]
            have hft := fitOK_same hps am.2.1.1 (s 1 0)
            have e110 : shS (tkS s' j) (p + 1 : Nat) n 0 110 = n := by rw [e0, h110]; omega
            have e1 : shS (tkS s' j) (p + 1 : Nat) n 1 = s 1 := g1
            apply bm_X6_shrunk_42 (d := d + 1) hM
            simp (disch := omega) only [zw_id, e110, e1]
            refine ⟨fun _ => ?_, fun e => absurd (Int.le_refl _) e⟩
            have k1 : ∀ f : Nat → Int, ∀ k, k ≠ 0 → k ≠ 8 → k ≠ 9 → k ≠ 10 → mset (shS (tkS s' j) (p + 1 : Nat) n) 10 f k = s k := fun f k a b c e => by
              rw [msn e]; unfold shS; rw [msn c, tkS_o a b c]; exact f1 k a b c e
            have k2 : ∀ f : Nat → Int, ∀ i, i ≠ 109 → i ≠ 110 → i ≠ 114 → mset (shS (tkS s' j) (p + 1 : Nat) n) 10 f 0 i = s 0 i := fun f i a b c => by
              rw [msn (by omega), e0, tkS_k _ _ _ a b]; exact f2 i a b c
            have k3 : ∀ f : Nat → Int, mset (shS (tkS s' j) (p + 1 : Nat) n) 10 f 0 114 = j := fun f => by
              rw [msn (by omega), e0, tkS_k _ _ _ (by omega) (by omega)]; exact f3
            refine c_fits (d := d) (s := shS (tkS s' j) (p + 1 : Nat) n) hM (by rw [e1]; exact hg) sk am (by omega) (fun hf f _ => ?_) (fun hf f => ?_)
            · rw [hft.1] at hf
              have hv2 : R = (p + 1 : Nat) := by rw [hv, if_pos (show shP (s 1) j (p + 1 : Nat) = true from hf)]
              apply bm_X6_shrunk_90 (d := d + 1) hM
              simp (disch := omega) only [zw_id]
              refine ⟨fun e => absurd e (by decide), fun _ => ?_⟩
              apply bm_X6_shrunk_25 (d := d + 1) hM
              simp (disch := omega) only [zw_id]
              exact ⟨fun _ => fin _ (k1 f) (k2 f) _ hv2, fun _ => ⟨fun _ => fin _ (k1 f) (k2 f) _ hv2, fun e => absurd (by omega) e⟩⟩
            · rw [hft.1] at hf
              rw [if_neg (by rw [show shP (s 1) j (p + 1 : Nat) = false from hf]; decide)] at hv
              apply bm_X6_shrunk_90 (d := d + 1) hM
              simp (disch := omega) only [zw_id]
              refine ⟨fun _ => ?_, fun e => absurd (by decide) e⟩
              rw [show ((p + 1 : Nat) : Int) + -1 = (p : Nat) by omega]
              exact (ih (by omega) _ (k1 f) (k2 f) (k3 f) hv).1
          | succ r ihr =>
            intro n hn
            have ihr := ihr (n + 1) (by omega)
            rw [shS_s] at ihr
            have am3 := ham.2.2 n (by rw [h110]; omega)
            have e9 : shS (tkS s' j) (p + 1 : Nat) n 9 n = tkS s' j 9 n := by unfold shS; rw [mse, if_neg (by omega)]
            have e110 : shS (tkS s' j) (p + 1 : Nat) n 0 110 = s' 1 (96 + 32 * j + 4) := h110
            have ml := mulb (show 0 ≤ tkS s' j 9 n by omega) am3.2.2 (show (0 : Int) ≤ (p + 1 : Nat) by omega) (show ((p + 1 : Nat) : Int) ≤ 100 by omega)
            rw [← g1] at b1
            apply bm_X6_shrunk_42 (d := d + 1) hM
            simp (disch := omega) only [zw_id, e110, Int.toNat_natCast, e9, tdiv100]
            refine ⟨fun e => absurd e (by omega), fun _ => ⟨by omega, fun e => ?_, fun e => ?_⟩⟩
            · rw [show max 1 (tkS s' j 9 n * ((p + 1 : Nat) : Int) / 100) = tkS s' j 9 n * ((p + 1 : Nat) : Int) / 100 by omega] at ihr; exact ihr
            · rw [show max 1 (tkS s' j 9 n * ((p + 1 : Nat) : Int) / 100) = 1 by omega] at ihr; exact ihr
        have l0 := l42 (s' 1 (96 + 32 * j + 4)).toNat 0 (by rw [g1]; omega)
        rw [shS_0] at l0
        exact l0
      · apply bm_X6_shrunk_25 (d := d + 1) hM
        simp (disch := omega) only [zw_id]
        exact ⟨fun _ => fin s' f1 f2 _ hv, fun _ => ⟨fun _ => fin s' f1 f2 _ hv, fun e => absurd v1 e⟩⟩
  apply bm_X6_shrunk (d := d + 1) hM
  simp (disch := omega) only [zw_id, jx, Int.reduceToNat]
  refine ⟨fun e => absurd e (by omega), fun _ => ⟨fun e => absurd e (by omega), fun _ => ⟨by omega, fun e => absurd hw e, fun _ => ?_⟩⟩⟩
  rw [mup_mset]
  refine (main 100 (by omega) _ (fun k a _ _ _ => msn a) (fun i _ _ c => ?_) ?_ hR.symm).1
  · rw [mse, udn c]
  · rw [mse, ude]
