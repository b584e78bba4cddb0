/-! THE CLEAN MACHINE AND THE REAL ONE -/
/-- the classes of the tags, the slots of the fields, the heap at the law's start, the constants -/
abbrev ZG : Type := (Nat → ClassId) × (Nat → Nat) × Heap × (Nat → Nat)
abbrev zB (G : ZG) : Heap := G.2.2.1
abbrev zEE (G : ZG) : Nat → Nat := G.2.2.2
abbrev ZY : Type := MethodName × ByteArray × Nat × Option FieldType
def zref (r : Nat) : Value := match r with
  | 0 => .null
  | a + 1 => .ref a
def zval (v : ZV) : Value := match v with
  | .inl x => .int (Int32.ofInt x)
  | .inr (.inl x) => .long (Int64.ofInt x)
  | .inr (.inr r) => zref r
def ZLs (ls : Array Slot) (nL : Nat) (L : ZL) : Prop := L.length = nL ∧ ls.size = nL ∧ lv_wf ls ∧ ∀ (i : Nat) (v : ZV), L[i]? = some (some v) → ls[i]? = some (.val (zval v))
def zfv (H : ZH) (f r : Nat) : Value := match zft f with
  | 0 => .int (Int32.ofInt (hI H f r))
  | 1 => .long (Int64.ofInt (hI H f r))
  | _ => zref (hR H f r)
def zav (H : ZH) (t r i : Nat) : Value := match zak t with
  | 0 => .int (Int32.ofInt (hA H r i))
  | 1 => .long (Int64.ofInt (hA H r i))
  | _ => zref (hQ H r i)
def ZCell (G : ZG) (H : ZH) (r : Nat) (c : Cell) : Prop := c.vm = .none ∧ c.cls = G.1 (hT H r) ∧ (if hT H r < 100 then (∀ f ∈ zfl (hT H r), c.slots[G.2.1 f]? = some (zfv H f r)) else (hT H r ∈ zarrs ∧ c = arrV (G.1 (hT H r)) (hL H r) (zav H (hT H r) r) ∧ hL H r < 1073741824))
def zsum (M : Heap) : Nat := (M.toList.map (·.slots.size)).sum
def ZHeap (G : ZG) (H : ZH) (M : Heap) : Prop := hN H = M.size + 1 ∧ hS H = zsum M ∧ hT H 0 = 0 ∧ (∀ r, hT H r ≠ 0 → ∃ a c, r = a + 1 ∧ M[a]? = some c ∧ ZCell G H r c) ∧ (∀ a, zrw (hT H (a + 1)) = true → hT H (a + 1) ≠ 0 → (zB G).size ≤ a) ∧ (∀ a, a < (zB G).size → M[a]? = (zB G)[a]?) ∧ (zB G).size ≤ M.size ∧ (∀ k, hE H k = zEE G k)
/-- words that don't ride in lw_all but stay true -/
def zmv (w : Cond) : Bool := match w with
  | .fieldLinkNest .. => true
  | .methodLinkNest .. => true
  | .castable .. => true
  | .arrayOver (.object _) => true
  | .declares _ => true
  | _ => false
/-- a static of the world: its value -/
def zsv (G : ZG) (q : Int ⊕ Nat) : Value := match q with
  | .inl x => .int (Int32.ofInt x)
  | .inr k => zref (zEE G k)
/-- a lambda's site is linked, its class made -/
def ZLa (G : ZG) (U : State) (j : Nat) (q : MethodName × Nat × Nat × Lambda.Shape) : Prop := ∃ (m : MethodId) (k : Class) (i0 p0 : Nat) (ln : Linked), U.methodNamed? q.1 = some m ∧ U.vm.classes[m.cls]? = some k ∧
  (k.callSites.find? fun y => y.1 == m.idx && y.2.1 == q.2.1) = some (i0, p0, ln) ∧ Lambda.isMade { classPath := fun _ => none } U.vm m.cls q.2.2.2 (G.1 (zNO + j)) = true ∧ U.lambdaCallable q.2.2.2 (G.1 (zNO + j)) = true ∧
  ((∃ a, ln = .constant a ∧ zEE G (100 + j) = a + 1 ∧ q.2.2.2.captured = []) ∨ (ln = .makes (G.1 (zNO + j)) ∧ q.2.2.2.captured ≠ []))
def ZVm (G : ZG) (U : State) : Prop := (∀ t, 0 < t → t < zNO → ClassAt U (znm t) (G.1 t)) ∧ (∀ f, f < zNF → SlotIs U (zfo f).1 (zfo f).2.1 (zfo f).2.2.1 (G.2.1 f)) ∧ (∀ t ∈ zarrs, ArrOfT U (G.1 t) (zaty t) ∧ va_RA U (G.1 t) (zaty t)) ∧ (∀ w ∈ lw_tbl, zmv w = true → va_Nw w U) ∧ (∀ q ∈ znc, va_Nc q.1 q.2 U) ∧
  (∀ q ∈ zstats, va_Z q.1 q.2.1 q.2.2.1 (zsv G q.2.2.2) (fun a => (zB G).size ≤ a) U (zB G)) ∧ (∀ q ∈ zstrs, vk_R q.1 q.2.1 q.2.2.1 (zEE G q.2.2.2 - 1) U ∧ 0 < zEE G q.2.2.2) ∧ (∀ q ∈ zmirs, va_Mi q.1 (zEE G q.2 - 1) U ∧ 0 < zEE G q.2) ∧ (∀ q ∈ zfaces, va_Fw q.1 q.2.1 q.2.2 U) ∧ (∀ (j : Nat) q, zlams[j]? = some q → ZLa G U j q) ∧ va_Dc U
def zlim (H : ZH) : Prop := hN H ≤ hE H 0 ∧ hS H ≤ hE H 1
def ZNx (H0 H : ZH) : Prop := hN H0 ≤ hN H ∧ hS H0 ≤ hS H ∧ (∀ k, hE H k = hE H0 k) ∧ zlim H
def zPc (G : ZG) (args : ZS) (H : ZH) : Array Value → State → Prop := fun a U => a = (args.map zval).toArray ∧ ZHeap G H U.heap ∧ ZVm G U
def zQc (G : ZG) (H0 : ZH) (Q : ZQ) : Array Value → State → Outcome → State → Prop := fun _ _ o t => ∃ r H, Q r H ∧ r.length ≤ 1 ∧ o = .returned (r.head?.map zval) ∧ ZHeap G H t.heap ∧ ZNx H0 H
def zroom (d : Nat) (H : ZH) : Room := { frames := 2 * d, cells := hE H 0 - hN H, slots := hE H 1 - hS H, locals := 3100 + 128 * d }
def zfree (G : ZG) : Addr → Prop := fun q => (zB G).size ≤ q
/-- what a call of the method of data y promises -/
def ZMet (l : Launch) (G : ZG) (d : Nat) (y : ZY) (args : ZS) (H : ZH) (Q : ZQ) : Prop := Met l y.1 (ws_ y.1 y.2.1 y.2.2.1 y.2.2.2) (zroom d H) (zPc G args H) (zQc G H Q) (hE H 0 - hN H) (hE H 1 - hS H) (zfree G)
/-- what is known in a frame -/
def ZCx (p : Program) (R : Room) (s : State) (m : MethodId) (args : Array Value) (meth : Method) (c : Code) (G : ZG) (H0 : ZH) (d : Nat) (own nm de : String) (cc : ByteArray) (nL : Nat) (rt : Option FieldType) : Prop :=
  p.tables.exec = Jvm.exec ∧ c.code = cc ∧ meth.sig.returnType = rt ∧ meth.locks = false ∧ c.maxLocals = nL ∧ s.vm.findClass own = some m.cls ∧ (∀ w ∈ lw_all, w.before args s = true) ∧ ZVm G s ∧ R = zroom (d + 1) H0 ∧ s.heap.size + 1 = hN H0 ∧ zsum s.heap = hS H0 ∧ meth.name = nm ∧ nL ≤ 32 ∧ s.methodNamed? ⟨own, nm, de⟩ = some m
def ZFr (G : ZG) (H0 H : ZH) (nL : Nat) (L : ZL) (ls : Array Slot) (M : Heap) (locs : List Loc) : Prop := ZLs ls nL L ∧ ZHeap G H M ∧ ZNx H0 H ∧ (∀ q ∈ locs, (zB G).size ≤ q.base)
def ZGd (p : Program) (l : Launch) (e : Env) (R : Room) (s : State) (m : MethodId) (args : Array Value) (below : List Frame) (meth : Method) (c : Code) (Qm : State → Prop) (G : ZG) (H0 : ZH) (nL : Nat) : ZN := fun pc L S H => ∀ (ls : Array Slot) (M : Heap) (locs : List Loc), ZFr G H0 H nL L ls M locs → W p l e R s m args below meth c M locs (hN H - hN H0) (hS H - hS H0) Qm (F0 m pc ls (S.map zval))
def zQm (below : List Frame) (G : ZG) (H0 : ZH) (Q : ZQ) (args : Array Value) (s : State) : State → Prop := MQ below (zQc G H0 Q) args s (hE H0 0 - hN H0) (hE H0 1 - hS H0) (zfree G)
/-- the operation o at pc is what the machine does there -/
def ZSn (mt : Nat → ZY) (own nm de : String) (cc : ByteArray) (nL : Nat) (rt : Option FieldType) (pc : Nat) (o : ZO) : Prop :=
  ∀ (p : Program) (l : Launch) (e : Env) (R : Room) (s : State) (m : MethodId) (args : Array Value) (below : List Frame) (meth : Method) (c : Code) (G : ZG) (H0 : ZH) (d : Nat) (C : ZC) (Q : ZQ) (P : ZN),
    ZCx p R s m args meth c G H0 d own nm de cc nL rt → (∀ k as H Q, C k as H Q → zlim H → ZMet l G d (mt k) as H Q) →
    (∀ pc L S H, P pc L S H → ZGd p l e R s m args below meth c (zQm below G H0 Q args s) G H0 nL pc L S H) →
    ∀ L S H, o C L S H P Q → ZGd p l e R s m args below meth c (zQm below G H0 Q args s) G H0 nL pc L S H
section SN
variable {mt : Nat → ZY} {own nm de : String} {cc : ByteArray} {nL : Nat} {rt : Option FieldType} {pc : Nat}
theorem ofi_w (x : Int) : (Int32.ofInt x).toInt = zw x := by simp [zw, Int32.toInt_ofInt]
theorem sn_iconst {n v : Int} (hd : decode cc pc = .ok (.iconst n, 1)) (hv : Int32.ofInt n = Int32.ofInt v) : ZSn mt own nm de cc nL rt pc (oconst (zI v) (pc + 1)) := by
  intro p l e R s m args below meth c G H0 d C Q P cx hC hP L S H ho ls M locs fr
  exact lv_iconst cx.1 cx.2.1 hd hv (hP _ _ _ _ ho ls M locs fr)
theorem sn_bipush {n v : Int} (hd : decode cc pc = .ok (.bipush n, 2)) (hv : (Int8.ofInt n).toInt32 = Int32.ofInt v) : ZSn mt own nm de cc nL rt pc (oconst (zI v) (pc + 2)) := by
  intro p l e R s m args below meth c G H0 d C Q P cx hC hP L S H ho ls M locs fr
  exact lv_bipush cx.1 cx.2.1 hd hv (hP _ _ _ _ ho ls M locs fr)
theorem sn_sipush {n v : Int} (hd : decode cc pc = .ok (.sipush n, 3)) (hv : (Int16.ofInt n).toInt32 = Int32.ofInt v) : ZSn mt own nm de cc nL rt pc (oconst (zI v) (pc + 3)) := by
  intro p l e R s m args below meth c G H0 d C Q P cx hC hP L S H ho ls M locs fr
  exact lv_sipush cx.1 cx.2.1 hd hv (hP _ _ _ _ ho ls M locs fr)
theorem sn_lconst {n : Fin 2} {v : Int} (hd : decode cc pc = .ok (.lconst n, 1)) (hv : Int64.ofNat (n : Nat) = Int64.ofInt v) : ZSn mt own nm de cc nL rt pc (oconst (zJ v) (pc + 1)) := by
  intro p l e R s m args below meth c G H0 d C Q P cx hC hP L S H ho ls M locs fr
  exact lv_lconst cx.1 cx.2.1 hd hv (hP _ _ _ _ ho ls M locs fr)
theorem sn_null (hd : decode cc pc = .ok (.aconst_null, 1)) : ZSn mt own nm de cc nL rt pc (oconst (zR 0) (pc + 1)) := by
  intro p l e R s m args below meth c G H0 d C Q P cx hC hP L S H ho ls M locs fr
  exact lv_null cx.1 cx.2.1 hd (hP _ _ _ _ ho ls M locs fr)
theorem sn_ldc {index : Nat} {x : Int32} {v : Int} (hd : decode cc pc = .ok (.ldc index, 2)) (hw : Cond.constant own index x ∈ lw_all) (hv : x = Int32.ofInt v) : ZSn mt own nm de cc nL rt pc (oconst (zI v) (pc + 2)) := by
  intro p l e R s m args below meth c G H0 d C Q P cx hC hP L S H ho ls M locs fr
  subst hv
  exact lv_ldc cx.1 cx.2.1 cx.2.2.2.2.2.1 (cx.2.2.2.2.2.2.1 _ hw) hd (hP _ _ _ _ ho ls M locs fr)
theorem sn_ldc2 {index : Nat} {x : Int64} {v : Int} (hd : decode cc pc = .ok (.ldc2_w index, 3)) (hw : Cond.constantLong own index x ∈ lw_all) (hv : x = Int64.ofInt v) : ZSn mt own nm de cc nL rt pc (oconst (zJ v) (pc + 3)) := by
  intro p l e R s m args below meth c G H0 d C Q P cx hC hP L S H ho ls M locs fr
  subst hv
  exact lv_ldc2 cx.1 cx.2.1 cx.2.2.2.2.2.1 (cx.2.2.2.2.2.2.1 _ hw) hd (hP _ _ _ _ ho ls M locs fr)
theorem sn_iload {n : Nat} (hd : decode cc pc = .ok (.iload n, 2)) : ZSn mt own nm de cc nL rt pc (oldI n (pc + 2)) := by
  intro p l e R s m args below meth c G H0 d C Q P cx hC hP L S H ho ls M locs fr
  simp only [oldI] at ho
  split at ho
  · next x hx => exact lv_iload cx.1 cx.2.1 hd (fr.1.2.2.2 _ _ hx) (hP _ _ _ _ ho ls M locs fr)
  · exact ho.elim
theorem sn_iload_n {k : Fin 4} (hd : decode cc pc = .ok (.iload_n k, 1)) : ZSn mt own nm de cc nL rt pc (oldI k.val (pc + 1)) := by
  intro p l e R s m args below meth c G H0 d C Q P cx hC hP L S H ho ls M locs fr
  simp only [oldI] at ho
  split at ho
  · next x hx => exact lv_iload_n cx.1 cx.2.1 hd rfl (fr.1.2.2.2 _ _ hx) (hP _ _ _ _ ho ls M locs fr)
  · exact ho.elim
theorem sn_lload {n : Nat} (hd : decode cc pc = .ok (.lload n, 2)) : ZSn mt own nm de cc nL rt pc (oldJ n (pc + 2)) := by
  intro p l e R s m args below meth c G H0 d C Q P cx hC hP L S H ho ls M locs fr
  simp only [oldJ] at ho
  split at ho
  · next x hx => exact lv_lload cx.1 cx.2.1 hd (fr.1.2.2.2 _ _ hx) (hP _ _ _ _ ho ls M locs fr)
  · exact ho.elim
theorem sn_lload_n {k : Fin 4} (hd : decode cc pc = .ok (.lload_n k, 1)) : ZSn mt own nm de cc nL rt pc (oldJ k.val (pc + 1)) := by
  intro p l e R s m args below meth c G H0 d C Q P cx hC hP L S H ho ls M locs fr
  simp only [oldJ] at ho
  split at ho
  · next x hx => exact lv_lload_n cx.1 cx.2.1 hd rfl (fr.1.2.2.2 _ _ hx) (hP _ _ _ _ ho ls M locs fr)
  · exact ho.elim
theorem sn_aload {n : Nat} (hd : decode cc pc = .ok (.aload n, 2)) : ZSn mt own nm de cc nL rt pc (oldR n (pc + 2)) := by
  intro p l e R s m args below meth c G H0 d C Q P cx hC hP L S H ho ls M locs fr
  simp only [oldR] at ho
  split at ho
  · next x hx =>
    have k := hP _ _ _ _ ho ls M locs fr
    cases x with
    | zero => exact lv_aloadN cx.1 cx.2.1 hd (fr.1.2.2.2 _ _ hx) k
    | succ a => exact lv_aload cx.1 cx.2.1 hd (fr.1.2.2.2 _ _ hx) k
  · exact ho.elim
theorem sn_aload_n {k : Fin 4} (hd : decode cc pc = .ok (.aload_n k, 1)) : ZSn mt own nm de cc nL rt pc (oldR k.val (pc + 1)) := by
  intro p l e R s m args below meth c G H0 d C Q P cx hC hP L S H ho ls M locs fr
  simp only [oldR] at ho
  split at ho
  · next x hx =>
    have k := hP _ _ _ _ ho ls M locs fr
    cases x with
    | zero => exact lv_aload_nN cx.1 cx.2.1 hd rfl (fr.1.2.2.2 _ _ hx) k
    | succ a => exact lv_aload_n cx.1 cx.2.1 hd rfl (fr.1.2.2.2 _ _ hx) k
  · exact ho.elim
def zll (L : ZL) : List (Nat × Value) := (List.range L.length).filterMap (fun i => (L[i]?).join.map (fun v => (i, zval v)))
theorem zll_mem {L : ZL} {i : Nat} {v : ZV} (h : L[i]? = some (some v)) : (i, zval v) ∈ zll L := by
  refine List.mem_filterMap.mpr ⟨i, List.mem_range.mpr (List.getElem?_eq_some_iff.mp h).1, ?_⟩
  simp [h]
theorem zll_has {ls : Array Slot} {L : ZL} (h : ZLs ls nL L) : lv_has ls nL (zll L) := by
  refine ⟨h.2.1, h.2.2.1, fun q hq => ?_⟩
  obtain ⟨i, hi, he⟩ := List.mem_filterMap.mp hq
  cases hL : L[i]? with
  | none => simp [hL] at he
  | some o =>
    cases o with
    | none => simp [hL] at he
    | some v =>
      simp [hL] at he
      subst he
      exact h.2.2.2 i v hL
theorem zclr_len (L : ZL) (n : Nat) : (zclr L n).length = L.length := by
  unfold zclr
  split
  · rfl
  · split <;> simp
theorem zcat_J (v : ZV) : (zval v).category = 2 ↔ ∃ x, v = zJ x := by
  rcases v with x | x | r
  · simp [zval, Value.category]
  · simp [zval, Value.category]
  · cases r <;> simp [zval, zref, Value.category]
theorem zclr_get {L : ZL} {n j : Nat} {w : ZV} (hj : j ≠ n) (h : (zclr L n)[j]? = some (some w)) : L[j]? = some (some w) ∧ ¬ (j + 1 = n ∧ (zval w).category = 2) := by
  unfold zclr at h
  split at h
  · exact ⟨h, by omega⟩
  · next i =>
    split at h
    · next x hx =>
      by_cases e : j = i
      · subst e
        have hl := (List.getElem?_eq_some_iff.mp hx).1
        rw [List.getElem?_set_self hl] at h
        cases h
      · rw [List.getElem?_set_ne (Ne.symm e)] at h
        exact ⟨h, by omega⟩
    · next hx =>
      refine ⟨h, fun q => ?_⟩
      obtain ⟨q1, q2⟩ := q
      obtain ⟨x, rfl⟩ := (zcat_J w).mp q2
      have : j = i := by omega
      subst this
      exact hx x h
theorem zst1 {ls' : Array Slot} {L : ZL} {n : Nat} {v : ZV} (hL : L.length = nL) (hn : n < L.length) (h : lv_has ls' nL ((n, zval v) :: (zll L).filter (fun q => !(q.1 == n) && !(q.1 + 1 == n && q.2.category == 2)))) : ZLs ls' nL ((zclr L n).set n (some v)) := by
  refine ⟨by simp [zclr_len, hL], h.1, h.2.1, fun j w hw => ?_⟩
  by_cases e : j = n
  · subst e
    rw [List.getElem?_set_self (by rw [zclr_len]; exact hn)] at hw
    cases hw
    exact h.2.2 _ List.mem_cons_self
  · rw [List.getElem?_set_ne (Ne.symm e)] at hw
    obtain ⟨h1, h2⟩ := zclr_get e hw
    refine h.2.2 (j, zval w) (List.mem_cons_of_mem _ (List.mem_filter.mpr ⟨zll_mem h1, ?_⟩))
    simp only [Bool.and_eq_true, Bool.not_eq_true', beq_eq_false_iff_ne, ne_eq, Bool.and_eq_false_iff]
    refine ⟨e, ?_⟩
    by_cases q : j + 1 = n
    · exact Or.inr (fun q2 => h2 ⟨q, q2⟩)
    · exact Or.inl q
theorem zst2 {ls' : Array Slot} {L : ZL} {n : Nat} {x : Int} (hL : L.length = nL) (hn : n + 1 < L.length) (h : lv_has ls' nL ((n, zval (zJ x)) :: (zll L).filter (fun q => !(q.1 == n) && (!(q.1 == n + 1) && !(q.1 + 1 == n && q.2.category == 2))))) : ZLs ls' nL (((zclr L n).set n (some (zJ x))).set (n + 1) none) := by
  refine ⟨by simp [zclr_len, hL], h.1, h.2.1, fun j w hw => ?_⟩
  by_cases e1 : j = n + 1
  · subst e1
    rw [List.getElem?_set_self (by simp [zclr_len]; exact hn)] at hw
    cases hw
  rw [List.getElem?_set_ne (Ne.symm e1)] at hw
  by_cases e : j = n
  · subst e
    rw [List.getElem?_set_self (by rw [zclr_len]; omega)] at hw
    cases hw
    exact h.2.2 _ List.mem_cons_self
  · rw [List.getElem?_set_ne (Ne.symm e)] at hw
    obtain ⟨h1, h2⟩ := zclr_get e hw
    refine h.2.2 (j, zval w) (List.mem_cons_of_mem _ (List.mem_filter.mpr ⟨zll_mem h1, ?_⟩))
    simp only [Bool.and_eq_true, Bool.not_eq_true', beq_eq_false_iff_ne, ne_eq, Bool.and_eq_false_iff]
    refine ⟨e, e1, ?_⟩
    by_cases q : j + 1 = n
    · exact Or.inr (fun q2 => h2 ⟨q, q2⟩)
    · exact Or.inl q
theorem sn_istore {n : Nat} (hd : decode cc pc = .ok (.istore n, 2)) : ZSn mt own nm de cc nL rt pc (ostI n (pc + 2)) := by
  intro p l e R s m args below meth c G H0 d C Q P cx hC hP L S H ho ls M locs fr
  simp only [ostI] at ho
  split at ho
  · obtain ⟨hn, ho⟩ := ho
    exact lv_istore cx.1 cx.2.1 hd (zll_has fr.1) (fr.1.1 ▸ hn) rfl (fun ls' hl => hP _ _ _ _ ho ls' M locs ⟨zst1 (v := zI _) fr.1.1 hn hl, fr.2⟩)
  · exact ho.elim
theorem sn_astore {n : Nat} (hd : decode cc pc = .ok (.astore n, 2)) : ZSn mt own nm de cc nL rt pc (ostR n (pc + 2)) := by
  intro p l e R s m args below meth c G H0 d C Q P cx hC hP L S H ho ls M locs fr
  simp only [ostR] at ho
  split at ho
  · next r S' =>
    obtain ⟨hn, ho⟩ := ho
    cases r with
    | zero => exact lv_astoreN cx.1 cx.2.1 hd (zll_has fr.1) (fr.1.1 ▸ hn) rfl (fun ls' hl => hP _ _ _ _ ho ls' M locs ⟨zst1 (v := zR 0) fr.1.1 hn hl, fr.2⟩)
    | succ a => exact lv_astore cx.1 cx.2.1 hd (zll_has fr.1) (fr.1.1 ▸ hn) rfl (fun ls' hl => hP _ _ _ _ ho ls' M locs ⟨zst1 (v := zR (a + 1)) fr.1.1 hn hl, fr.2⟩)
  · exact ho.elim
theorem sn_lstore {n : Nat} (hd : decode cc pc = .ok (.lstore n, 2)) : ZSn mt own nm de cc nL rt pc (ost2 n (pc + 2)) := by
  intro p l e R s m args below meth c G H0 d C Q P cx hC hP L S H ho ls M locs fr
  simp only [ost2] at ho
  split at ho
  · obtain ⟨hn, ho⟩ := ho
    exact lv_lstore cx.1 cx.2.1 hd (zll_has fr.1) (fr.1.1 ▸ hn) rfl (fun ls' hl => hP _ _ _ _ ho ls' M locs ⟨zst2 fr.1.1 hn hl, fr.2⟩)
  · exact ho.elim
theorem sn_istore_n {k : Fin 4} (hd : decode cc pc = .ok (.istore_n k, 1)) : ZSn mt own nm de cc nL rt pc (ostI k.val (pc + 1)) := by
  intro p l e R s m args below meth c G H0 d C Q P cx hC hP L S H ho ls M locs fr
  simp only [ostI] at ho
  split at ho
  · obtain ⟨hn, ho⟩ := ho
    exact lv_istore_n cx.1 cx.2.1 hd rfl (zll_has fr.1) (fr.1.1 ▸ hn) rfl (fun ls' hl => hP _ _ _ _ ho ls' M locs ⟨zst1 (v := zI _) fr.1.1 hn hl, fr.2⟩)
  · exact ho.elim
theorem sn_astore_n {k : Fin 4} (hd : decode cc pc = .ok (.astore_n k, 1)) : ZSn mt own nm de cc nL rt pc (ostR k.val (pc + 1)) := by
  intro p l e R s m args below meth c G H0 d C Q P cx hC hP L S H ho ls M locs fr
  simp only [ostR] at ho
  split at ho
  · next r S' =>
    obtain ⟨hn, ho⟩ := ho
    cases r with
    | zero => exact lv_astore_nN cx.1 cx.2.1 hd rfl (zll_has fr.1) (fr.1.1 ▸ hn) rfl (fun ls' hl => hP _ _ _ _ ho ls' M locs ⟨zst1 (v := zR 0) fr.1.1 hn hl, fr.2⟩)
    | succ a => exact lv_astore_n cx.1 cx.2.1 hd rfl (zll_has fr.1) (fr.1.1 ▸ hn) rfl (fun ls' hl => hP _ _ _ _ ho ls' M locs ⟨zst1 (v := zR (a + 1)) fr.1.1 hn hl, fr.2⟩)
  · exact ho.elim
theorem sn_lstore_n {k : Fin 4} (hd : decode cc pc = .ok (.lstore_n k, 1)) : ZSn mt own nm de cc nL rt pc (ost2 k.val (pc + 1)) := by
  intro p l e R s m args below meth c G H0 d C Q P cx hC hP L S H ho ls M locs fr
  simp only [ost2] at ho
  split at ho
  · obtain ⟨hn, ho⟩ := ho
    exact lv_lstore_n cx.1 cx.2.1 hd rfl (zll_has fr.1) (fr.1.1 ▸ hn) rfl (fun ls' hl => hP _ _ _ _ ho ls' M locs ⟨zst2 fr.1.1 hn hl, fr.2⟩)
  · exact ho.elim
theorem zst0 {ls' : Array Slot} {L : ZL} {n : Nat} {x v : Int} (hL : L.length = nL) (hx : L[n]? = some (some (zI x))) (h : lv_has ls' nL ((n, zval (zI v)) :: (zll L).filter (fun q => !(q.1 == n) && !(q.1 + 1 == n && q.2.category == 2)))) (hw : ∀ j : Nat, j + 1 = n → ∀ y, L[j]? ≠ some (some (zJ y))) : ZLs ls' nL (L.set n (some (zI v))) := by
  have hn := (List.getElem?_eq_some_iff.mp hx).1
  have e : zclr L n = L := by
    unfold zclr
    split
    · rfl
    · next i =>
      split
      · next y hy => exact absurd hy (hw i rfl y)
      · rfl
  have := zst1 (v := zI v) hL hn h
  rw [e] at this
  exact this
theorem zsec {ls : Array Slot} {L : ZL} {n : Nat} {x : Int} (h : ZLs ls nL L) (hx : L[n]? = some (some (zI x))) : ∀ j : Nat, j + 1 = n → ∀ y, L[j]? ≠ some (some (zJ y)) := by
  intro j hj y hy
  have h1 := h.2.2.2 _ _ hx
  have h2 := h.2.2.1.1 j _ (h.2.2.2 _ _ hy) rfl
  rw [hj] at h2
  rw [h1] at h2
  cases h2
theorem sn_iinc {n : Nat} {k : Int} (hd : decode cc pc = .ok (.iinc n k, 3)) : ZSn mt own nm de cc nL rt pc (oinc n k (pc + 3)) := by
  intro p l e R s m args below meth c G H0 d C Q P cx hC hP L S H ho ls M locs fr
  simp only [oinc] at ho
  split at ho
  · next x hx =>
    obtain ⟨j, hj⟩ := List.getElem?_of_mem (zll_mem hx)
    exact lv_iinc (v := Int32.ofInt (x + k)) cx.1 cx.2.1 hd (zll_has fr.1) hj (by rw [Int32.ofInt_add]) (fr.1.1 ▸ (List.getElem?_eq_some_iff.mp hx).1) rfl (fun ls' hl => hP _ _ _ _ ho ls' M locs ⟨zst0 fr.1.1 hx hl (zsec fr.1 hx), fr.2⟩)
  · exact ho.elim
theorem sn_iadd (hd : decode cc pc = .ok (.iadd, 1)) : ZSn mt own nm de cc nL rt pc (oii (fun x y => x + y) (pc + 1)) := by
  intro p l e R s m args below meth c G H0 d C Q P cx hC hP L S H ho ls M locs fr
  simp only [oii] at ho
  split at ho
  · next y x S' =>
    have k := hP _ _ _ _ ho ls M locs fr
    simp only [List.map_cons, zval, Int32.ofInt_add] at k ⊢
    exact lv_iadd cx.1 cx.2.1 hd k
  · exact ho.elim
theorem sn_isub (hd : decode cc pc = .ok (.isub, 1)) : ZSn mt own nm de cc nL rt pc (oii (fun x y => x - y) (pc + 1)) := by
  intro p l e R s m args below meth c G H0 d C Q P cx hC hP L S H ho ls M locs fr
  simp only [oii] at ho
  split at ho
  · next y x S' =>
    have k := hP _ _ _ _ ho ls M locs fr
    simp only [List.map_cons, zval, Int32.ofInt_sub] at k ⊢
    exact lv_isub cx.1 cx.2.1 hd k
  · exact ho.elim
theorem sn_imul (hd : decode cc pc = .ok (.imul, 1)) : ZSn mt own nm de cc nL rt pc (oii (fun x y => x * y) (pc + 1)) := by
  intro p l e R s m args below meth c G H0 d C Q P cx hC hP L S H ho ls M locs fr
  simp only [oii] at ho
  split at ho
  · next y x S' =>
    have k := hP _ _ _ _ ho ls M locs fr
    simp only [List.map_cons, zval, Int32.ofInt_mul] at k ⊢
    exact lv_imul cx.1 cx.2.1 hd k
  · exact ho.elim
theorem sn_ladd (hd : decode cc pc = .ok (.ladd, 1)) : ZSn mt own nm de cc nL rt pc (oll (fun x y => x + y) (pc + 1)) := by
  intro p l e R s m args below meth c G H0 d C Q P cx hC hP L S H ho ls M locs fr
  simp only [oll] at ho
  split at ho
  · next y x S' =>
    have k := hP _ _ _ _ ho ls M locs fr
    simp only [List.map_cons, zval, Int64.ofInt_add] at k ⊢
    exact lv_ladd cx.1 cx.2.1 hd k
  · exact ho.elim
theorem sn_lsub (hd : decode cc pc = .ok (.lsub, 1)) : ZSn mt own nm de cc nL rt pc (oll (fun x y => x - y) (pc + 1)) := by
  intro p l e R s m args below meth c G H0 d C Q P cx hC hP L S H ho ls M locs fr
  simp only [oll] at ho
  split at ho
  · next y x S' =>
    have k := hP _ _ _ _ ho ls M locs fr
    simp only [List.map_cons, zval, Int64.ofInt_sub] at k ⊢
    exact lv_lsub cx.1 cx.2.1 hd k
  · exact ho.elim
theorem sn_lmul (hd : decode cc pc = .ok (.lmul, 1)) : ZSn mt own nm de cc nL rt pc (oll (fun x y => x * y) (pc + 1)) := by
  intro p l e R s m args below meth c G H0 d C Q P cx hC hP L S H ho ls M locs fr
  simp only [oll] at ho
  split at ho
  · next y x S' =>
    have k := hP _ _ _ _ ho ls M locs fr
    simp only [List.map_cons, zval, Int64.ofInt_mul] at k ⊢
    exact lv_lmul cx.1 cx.2.1 hd k
  · exact ho.elim
theorem ofi_t (x : Int32) : Int32.ofInt x.toInt = x := Int32.ofInt_toInt x
theorem ofl_t (x : Int64) : Int64.ofInt x.toInt = x := Int64.ofInt_toInt x
theorem sn_iand (hd : decode cc pc = .ok (.iand, 1)) : ZSn mt own nm de cc nL rt pc (oii (zand) (pc + 1)) := by
  intro p l e R s m args below meth c G H0 d C Q P cx hC hP L S H ho ls M locs fr
  simp only [oii] at ho
  split at ho
  · next y x S' =>
    have k := hP _ _ _ _ ho ls M locs fr
    simp only [List.map_cons, zval, zand, ofi_t] at k ⊢
    exact lv_iand cx.1 cx.2.1 hd k
  · exact ho.elim
theorem sn_ior (hd : decode cc pc = .ok (.ior, 1)) : ZSn mt own nm de cc nL rt pc (oii (zor) (pc + 1)) := by
  intro p l e R s m args below meth c G H0 d C Q P cx hC hP L S H ho ls M locs fr
  simp only [oii] at ho
  split at ho
  · next y x S' =>
    have k := hP _ _ _ _ ho ls M locs fr
    simp only [List.map_cons, zval, zor, ofi_t] at k ⊢
    exact lv_ior cx.1 cx.2.1 hd k
  · exact ho.elim
theorem sn_ixor (hd : decode cc pc = .ok (.ixor, 1)) : ZSn mt own nm de cc nL rt pc (oii (zxor) (pc + 1)) := by
  intro p l e R s m args below meth c G H0 d C Q P cx hC hP L S H ho ls M locs fr
  simp only [oii] at ho
  split at ho
  · next y x S' =>
    have k := hP _ _ _ _ ho ls M locs fr
    simp only [List.map_cons, zval, zxor, ofi_t] at k ⊢
    exact lv_ixor cx.1 cx.2.1 hd k
  · exact ho.elim
theorem sn_ishl (hd : decode cc pc = .ok (.ishl, 1)) : ZSn mt own nm de cc nL rt pc (oii (zshl) (pc + 1)) := by
  intro p l e R s m args below meth c G H0 d C Q P cx hC hP L S H ho ls M locs fr
  simp only [oii] at ho
  split at ho
  · next y x S' =>
    have k := hP _ _ _ _ ho ls M locs fr
    simp only [List.map_cons, zval, zshl, ofi_t] at k ⊢
    exact lv_ishl cx.1 cx.2.1 hd k
  · exact ho.elim
theorem sn_ishr (hd : decode cc pc = .ok (.ishr, 1)) : ZSn mt own nm de cc nL rt pc (oii (zshr) (pc + 1)) := by
  intro p l e R s m args below meth c G H0 d C Q P cx hC hP L S H ho ls M locs fr
  simp only [oii] at ho
  split at ho
  · next y x S' =>
    have k := hP _ _ _ _ ho ls M locs fr
    simp only [List.map_cons, zval, zshr, ofi_t] at k ⊢
    exact lv_ishr cx.1 cx.2.1 hd k
  · exact ho.elim
theorem sn_iushr (hd : decode cc pc = .ok (.iushr, 1)) : ZSn mt own nm de cc nL rt pc (oii zushr (pc + 1)) := by
  intro p l e R s m args below meth c G H0 d C Q P cx hC hP L S H ho ls M locs fr
  simp only [oii] at ho
  split at ho
  · next y x S' =>
    have k := hP _ _ _ _ ho ls M locs fr
    simp only [List.map_cons, zval, zushr, ofi_t] at k ⊢
    exact lv_iushr cx.1 cx.2.1 hd rfl k
  · exact ho.elim
theorem ofi_ne {y : Int} (h : zw y ≠ 0) : ¬ Int32.ofInt y = 0 := by
  intro e
  apply h
  rw [← ofi_w, e]
  rfl
theorem ofi_div (x y : Int) : Int32.ofInt (Int.tdiv (zw x) (zw y)) = Int32.ofInt x / Int32.ofInt y := by
  rw [← Int32.toInt_inj, Int32.toInt_div, Int32.toInt_ofInt, ofi_w, ofi_w]
theorem ofi_rem (x y : Int) : Int32.ofInt (Int.tmod (zw x) (zw y)) = Int32.ofInt x - Int32.ofInt x / Int32.ofInt y * Int32.ofInt y := by
  rw [← ofi_div, Int.tmod_def, Int32.ofInt_sub, Int32.ofInt_mul, ← ofi_w, ← ofi_w, ofi_t, ofi_t, Int32.mul_comm]
theorem ofl_w (x : Int) : (Int64.ofInt x).toInt = zwl x := by simp [zwl, Int64.toInt_ofInt]
theorem ofl_ne {y : Int} (h : zwl y ≠ 0) : ¬ Int64.ofInt y = 0 := by
  intro e
  apply h
  rw [← ofl_w, e]
  rfl
theorem ofl_div (x y : Int) : Int64.ofInt (Int.tdiv (zwl x) (zwl y)) = Int64.ofInt x / Int64.ofInt y := by
  rw [← Int64.toInt_inj, Int64.toInt_div, Int64.toInt_ofInt, ofl_w, ofl_w]
theorem sn_idiv (hd : decode cc pc = .ok (.idiv, 1)) : ZSn mt own nm de cc nL rt pc (oidiv (pc + 1)) := by
  intro p l e R s m args below meth c G H0 d C Q P cx hC hP L S H ho ls M locs fr
  simp only [oidiv] at ho
  split at ho
  · next y x S' =>
    obtain ⟨hne, ho⟩ := ho
    have k := hP _ _ _ _ ho ls M locs fr
    simp only [List.map_cons, zval, ofi_div] at k ⊢
    exact lv_idiv cx.1 cx.2.1 hd (ofi_ne hne) k
  · exact ho.elim
theorem sn_irem (hd : decode cc pc = .ok (.irem, 1)) : ZSn mt own nm de cc nL rt pc (oirem (pc + 1)) := by
  intro p l e R s m args below meth c G H0 d C Q P cx hC hP L S H ho ls M locs fr
  simp only [oirem] at ho
  split at ho
  · next y x S' =>
    obtain ⟨hne, ho⟩ := ho
    have k := hP _ _ _ _ ho ls M locs fr
    simp only [List.map_cons, zval, ofi_rem] at k ⊢
    exact lv_irem cx.1 cx.2.1 hd (ofi_ne hne) k
  · exact ho.elim
theorem sn_ldiv (hd : decode cc pc = .ok (.ldiv, 1)) : ZSn mt own nm de cc nL rt pc (oldiv (pc + 1)) := by
  intro p l e R s m args below meth c G H0 d C Q P cx hC hP L S H ho ls M locs fr
  simp only [oldiv] at ho
  split at ho
  · next y x S' =>
    obtain ⟨hne, ho⟩ := ho
    have k := hP _ _ _ _ ho ls M locs fr
    simp only [List.map_cons, zval, ofl_div] at k ⊢
    exact lv_ldiv cx.1 cx.2.1 hd (ofl_ne hne) k
  · exact ho.elim
theorem sn_ineg (hd : decode cc pc = .ok (.ineg, 1)) : ZSn mt own nm de cc nL rt pc (oi1 (fun x => -x) (pc + 1)) := by
  intro p l e R s m args below meth c G H0 d C Q P cx hC hP L S H ho ls M locs fr
  simp only [oi1] at ho
  split at ho
  · next x S' =>
    have k := hP _ _ _ _ ho ls M locs fr
    simp only [List.map_cons, zval, Int32.ofInt_neg] at k ⊢
    exact lv_ineg cx.1 cx.2.1 hd k
  · exact ho.elim
theorem ofi_i2l (x : Int) : (Int32.ofInt x).toInt64 = Int64.ofInt (zw x) := by
  rw [← Int64.toInt_inj, Int32.toInt_toInt64, ofi_w, ofl_w, zwl, zw]
  have h1 := Int.le_bmod (x := x) (m := 4294967296) (by omega)
  have h2 := Int.bmod_lt (x := x) (m := 4294967296) (by omega)
  rw [Int.bmod_eq_of_le (n := Int.bmod x 4294967296) (by omega) (by omega)]
theorem ofl_l2i (x : Int) : (Int64.ofInt x).toInt32 = Int32.ofInt x := by
  rw [← Int32.toInt_inj, Int64.toInt_toInt32, Int64.toInt_ofInt, Int32.toInt_ofInt]
  exact Int.bmod_bmod_of_dvd (by decide)
theorem ofi_i2b (x : Int) : (Int32.ofInt x).toInt8.toInt32 = Int32.ofInt (Int.bmod x 256) := by
  have e : (Int32.ofInt x).toInt8 = Int8.ofInt x := by
    rw [← Int8.toInt_inj, Int32.toInt_toInt8, Int32.toInt_ofInt, Int8.toInt_ofInt]
    exact Int.bmod_bmod_of_dvd (by decide)
  rw [e, ← Int32.toInt_inj, Int8.toInt_toInt32, Int8.toInt_ofInt, Int32.toInt_ofInt]
  have h1 := Int.le_bmod (x := x) (m := 256) (by omega)
  have h2 := Int.bmod_lt (x := x) (m := 256) (by omega)
  show Int.bmod x 256 = Int.bmod (Int.bmod x 256) 4294967296
  rw [Int.bmod_eq_of_le (n := Int.bmod x 256) (by omega) (by omega)]
theorem ofi_i2c (x : Int) : ((Int32.ofInt x).toUInt32 % 65536).toInt32 = Int32.ofInt (x % 65536) := by
  rw [← Int32.toInt_inj]
  have e1 : ((Int32.ofInt x).toUInt32 % 65536).toNat = (x % 65536).toNat := by
    have e0 : (Int32.ofInt x).toUInt32.toNat = (x % 4294967296).toNat := by
      have h := Int32.toBitVec_ofInt x
      show (Int32.ofInt x).toBitVec.toNat = _
      rw [h, BitVec.toNat_ofInt]
      rfl
    rw [UInt32.toNat_mod, e0]
    show (x % 4294967296).toNat % 65536 = _
    omega
  rw [Int32.toInt_ofInt]
  show (((Int32.ofInt x).toUInt32 % 65536).toBitVec).toInt = _
  rw [BitVec.toInt_eq_toNat_bmod]
  show Int.bmod ((((Int32.ofInt x).toUInt32 % 65536).toNat : Nat) : Int) 4294967296 = Int.bmod (x % 65536) 4294967296
  rw [e1, Int.toNat_of_nonneg (by omega)]
theorem ofi_lcmp (x y : Int) : lg_cmp (Int64.ofInt x) (Int64.ofInt y) = Int32.ofInt (zlcmp x y) := by
  unfold lg_cmp zlcmp
  simp only [gt_iff_lt, Int64.lt_iff_toInt_lt, ← Int64.toInt_inj, ofl_w]
  by_cases h1 : zwl x < zwl y
  · rw [if_neg (by omega), if_neg (by omega), if_pos h1]; rfl
  · by_cases h2 : zwl x = zwl y
    · rw [if_neg (by omega), if_pos h2, if_neg h1, if_pos h2]; rfl
    · rw [if_pos (by omega), if_neg h1, if_neg h2]; rfl
theorem sn_i2l (hd : decode cc pc = .ok (.i2l, 1)) : ZSn mt own nm de cc nL rt pc (oi2l (pc + 1)) := by
  intro p l e R s m args below meth c G H0 d C Q P cx hC hP L S H ho ls M locs fr
  simp only [oi2l] at ho
  split at ho
  · next x S' => exact lv_i2l cx.1 cx.2.1 hd (ofi_i2l x) (hP _ _ _ _ ho ls M locs fr)
  · exact ho.elim
theorem sn_l2i (hd : decode cc pc = .ok (.l2i, 1)) : ZSn mt own nm de cc nL rt pc (ol2i (pc + 1)) := by
  intro p l e R s m args below meth c G H0 d C Q P cx hC hP L S H ho ls M locs fr
  simp only [ol2i] at ho
  split at ho
  · next x S' => exact lv_l2i cx.1 cx.2.1 hd (ofl_l2i x) (hP _ _ _ _ ho ls M locs fr)
  · exact ho.elim
theorem sn_i2b (hd : decode cc pc = .ok (.i2b, 1)) : ZSn mt own nm de cc nL rt pc (oi2b (pc + 1)) := by
  intro p l e R s m args below meth c G H0 d C Q P cx hC hP L S H ho ls M locs fr
  simp only [oi2b] at ho
  split at ho
  · next x S' => exact lv_i2b cx.1 cx.2.1 hd (ofi_i2b x) (hP _ _ _ _ ho ls M locs fr)
  · exact ho.elim
theorem sn_i2c (hd : decode cc pc = .ok (.i2c, 1)) : ZSn mt own nm de cc nL rt pc (oi2c (pc + 1)) := by
  intro p l e R s m args below meth c G H0 d C Q P cx hC hP L S H ho ls M locs fr
  simp only [oi2c] at ho
  split at ho
  · next x S' => exact lv_i2c cx.1 cx.2.1 hd (ofi_i2c x) (hP _ _ _ _ ho ls M locs fr)
  · exact ho.elim
theorem sn_lcmp (hd : decode cc pc = .ok (.lcmp, 1)) : ZSn mt own nm de cc nL rt pc (olcmp (pc + 1)) := by
  intro p l e R s m args below meth c G H0 d C Q P cx hC hP L S H ho ls M locs fr
  simp only [olcmp] at ho
  split at ho
  · next y x S' =>
    have k := hP _ _ _ _ ho ls M locs fr
    simp only [List.map_cons, zval, ← ofi_lcmp] at k ⊢
    exact W.lcmp cx.1 cx.2.1 hd k
  · exact ho.elim
theorem ofi_eq (x y : Int) : Int32.ofInt x = Int32.ofInt y ↔ zw x = zw y := by rw [← Int32.toInt_inj, ofi_w, ofi_w]
theorem ofi_lt (x y : Int) : Int32.ofInt x < Int32.ofInt y ↔ zw x < zw y := by rw [Int32.lt_iff_toInt_lt, ofi_w, ofi_w]
theorem ofi_le (x y : Int) : Int32.ofInt x ≤ Int32.ofInt y ↔ zw x ≤ zw y := by rw [Int32.le_iff_toInt_le, ofi_w, ofi_w]
theorem ofi_eq0 (x : Int) : Int32.ofInt x = 0 ↔ zw x = 0 := by rw [← Int32.toInt_inj, ofi_w]; exact Iff.rfl
theorem ofi_lt0 (x : Int) : Int32.ofInt x < 0 ↔ zw x < 0 := by rw [Int32.lt_iff_toInt_lt, ofi_w]; exact Iff.rfl
theorem ofi_le0 (x : Int) : Int32.ofInt x ≤ 0 ↔ zw x ≤ 0 := by rw [Int32.le_iff_toInt_le, ofi_w]; exact Iff.rfl
theorem ofi_0lt (x : Int) : 0 < Int32.ofInt x ↔ 0 < zw x := by rw [Int32.lt_iff_toInt_lt, ofi_w]; exact Iff.rfl
theorem ofi_0le (x : Int) : 0 ≤ Int32.ofInt x ↔ 0 ≤ zw x := by rw [Int32.le_iff_toInt_le, ofi_w]; exact Iff.rfl
theorem sn_icmp_eq {off : Int} {tg : Nat} (hd : decode cc pc = .ok (.if_icmp .eq off, 3)) (ht : (pc : Int) + off = (tg : Int)) : ZSn mt own nm de cc nL rt pc (oic (fun x y => x = y) tg (pc + 3)) := by
  intro p l e R s m args below meth c G H0 d C Q P cx hC hP L S H ho ls M locs fr
  simp only [oic] at ho
  split at ho
  · next y x S' => exact lv_icmp_eq cx.1 cx.2.1 hd ht (fun q => hP _ _ _ _ (ho.1 ((ofi_eq x y).mp q)) ls M locs fr) (fun q => hP _ _ _ _ (ho.2 (fun z => q ((ofi_eq x y).mpr z))) ls M locs fr)
  · exact ho.elim
theorem sn_if_eq {off : Int} {tg : Nat} (hd : decode cc pc = .ok (.ifCond .eq off, 3)) (ht : (pc : Int) + off = (tg : Int)) : ZSn mt own nm de cc nL rt pc (oi0 (fun x y => x = y) tg (pc + 3)) := by
  intro p l e R s m args below meth c G H0 d C Q P cx hC hP L S H ho ls M locs fr
  simp only [oi0] at ho
  split at ho
  · next x S' => exact lv_if_eq cx.1 cx.2.1 hd ht (fun q => hP _ _ _ _ (ho.1 ((ofi_eq0 x).mp q)) ls M locs fr) (fun q => hP _ _ _ _ (ho.2 (fun z => q ((ofi_eq0 x).mpr z))) ls M locs fr)
  · exact ho.elim
theorem sn_icmp_ne {off : Int} {tg : Nat} (hd : decode cc pc = .ok (.if_icmp .ne off, 3)) (ht : (pc : Int) + off = (tg : Int)) : ZSn mt own nm de cc nL rt pc (oic (fun x y => ¬ x = y) tg (pc + 3)) := by
  intro p l e R s m args below meth c G H0 d C Q P cx hC hP L S H ho ls M locs fr
  simp only [oic] at ho
  split at ho
  · next y x S' => exact lv_icmp_ne cx.1 cx.2.1 hd ht (fun q => hP _ _ _ _ (ho.1 (fun z => q ((ofi_eq x y).mpr z))) ls M locs fr) (fun q => hP _ _ _ _ (ho.2 (not_not_intro ((ofi_eq x y).mp q))) ls M locs fr)
  · exact ho.elim
theorem sn_if_ne {off : Int} {tg : Nat} (hd : decode cc pc = .ok (.ifCond .ne off, 3)) (ht : (pc : Int) + off = (tg : Int)) : ZSn mt own nm de cc nL rt pc (oi0 (fun x y => ¬ x = y) tg (pc + 3)) := by
  intro p l e R s m args below meth c G H0 d C Q P cx hC hP L S H ho ls M locs fr
  simp only [oi0] at ho
  split at ho
  · next x S' => exact lv_if_ne cx.1 cx.2.1 hd ht (fun q => hP _ _ _ _ (ho.1 (fun z => q ((ofi_eq0 x).mpr z))) ls M locs fr) (fun q => hP _ _ _ _ (ho.2 (not_not_intro ((ofi_eq0 x).mp q))) ls M locs fr)
  · exact ho.elim
theorem sn_icmp_lt {off : Int} {tg : Nat} (hd : decode cc pc = .ok (.if_icmp .lt off, 3)) (ht : (pc : Int) + off = (tg : Int)) : ZSn mt own nm de cc nL rt pc (oic (fun x y => x < y) tg (pc + 3)) := by
  intro p l e R s m args below meth c G H0 d C Q P cx hC hP L S H ho ls M locs fr
  simp only [oic] at ho
  split at ho
  · next y x S' => exact lv_icmp_lt cx.1 cx.2.1 hd ht (fun q => hP _ _ _ _ (ho.1 ((ofi_lt x y).mp q)) ls M locs fr) (fun q => hP _ _ _ _ (ho.2 (fun z => q ((ofi_lt x y).mpr z))) ls M locs fr)
  · exact ho.elim
theorem sn_if_lt {off : Int} {tg : Nat} (hd : decode cc pc = .ok (.ifCond .lt off, 3)) (ht : (pc : Int) + off = (tg : Int)) : ZSn mt own nm de cc nL rt pc (oi0 (fun x y => x < y) tg (pc + 3)) := by
  intro p l e R s m args below meth c G H0 d C Q P cx hC hP L S H ho ls M locs fr
  simp only [oi0] at ho
  split at ho
  · next x S' => exact lv_if_lt cx.1 cx.2.1 hd ht (fun q => hP _ _ _ _ (ho.1 ((ofi_lt0 x).mp q)) ls M locs fr) (fun q => hP _ _ _ _ (ho.2 (fun z => q ((ofi_lt0 x).mpr z))) ls M locs fr)
  · exact ho.elim
theorem sn_icmp_ge {off : Int} {tg : Nat} (hd : decode cc pc = .ok (.if_icmp .ge off, 3)) (ht : (pc : Int) + off = (tg : Int)) : ZSn mt own nm de cc nL rt pc (oic (fun x y => y ≤ x) tg (pc + 3)) := by
  intro p l e R s m args below meth c G H0 d C Q P cx hC hP L S H ho ls M locs fr
  simp only [oic] at ho
  split at ho
  · next y x S' => exact lv_icmp_ge cx.1 cx.2.1 hd ht (fun q => hP _ _ _ _ (ho.1 ((ofi_le y x).mp q)) ls M locs fr) (fun q => hP _ _ _ _ (ho.2 (fun z => q ((ofi_le y x).mpr z))) ls M locs fr)
  · exact ho.elim
theorem sn_if_ge {off : Int} {tg : Nat} (hd : decode cc pc = .ok (.ifCond .ge off, 3)) (ht : (pc : Int) + off = (tg : Int)) : ZSn mt own nm de cc nL rt pc (oi0 (fun x y => y ≤ x) tg (pc + 3)) := by
  intro p l e R s m args below meth c G H0 d C Q P cx hC hP L S H ho ls M locs fr
  simp only [oi0] at ho
  split at ho
  · next x S' => exact lv_if_ge cx.1 cx.2.1 hd ht (fun q => hP _ _ _ _ (ho.1 ((ofi_0le x).mp q)) ls M locs fr) (fun q => hP _ _ _ _ (ho.2 (fun z => q ((ofi_0le x).mpr z))) ls M locs fr)
  · exact ho.elim
theorem sn_icmp_gt {off : Int} {tg : Nat} (hd : decode cc pc = .ok (.if_icmp .gt off, 3)) (ht : (pc : Int) + off = (tg : Int)) : ZSn mt own nm de cc nL rt pc (oic (fun x y => y < x) tg (pc + 3)) := by
  intro p l e R s m args below meth c G H0 d C Q P cx hC hP L S H ho ls M locs fr
  simp only [oic] at ho
  split at ho
  · next y x S' => exact lv_icmp_gt cx.1 cx.2.1 hd ht (fun q => hP _ _ _ _ (ho.1 ((ofi_lt y x).mp q)) ls M locs fr) (fun q => hP _ _ _ _ (ho.2 (fun z => q ((ofi_lt y x).mpr z))) ls M locs fr)
  · exact ho.elim
theorem sn_if_gt {off : Int} {tg : Nat} (hd : decode cc pc = .ok (.ifCond .gt off, 3)) (ht : (pc : Int) + off = (tg : Int)) : ZSn mt own nm de cc nL rt pc (oi0 (fun x y => y < x) tg (pc + 3)) := by
  intro p l e R s m args below meth c G H0 d C Q P cx hC hP L S H ho ls M locs fr
  simp only [oi0] at ho
  split at ho
  · next x S' => exact lv_if_gt cx.1 cx.2.1 hd ht (fun q => hP _ _ _ _ (ho.1 ((ofi_0lt x).mp q)) ls M locs fr) (fun q => hP _ _ _ _ (ho.2 (fun z => q ((ofi_0lt x).mpr z))) ls M locs fr)
  · exact ho.elim
theorem sn_icmp_le {off : Int} {tg : Nat} (hd : decode cc pc = .ok (.if_icmp .le off, 3)) (ht : (pc : Int) + off = (tg : Int)) : ZSn mt own nm de cc nL rt pc (oic (fun x y => x ≤ y) tg (pc + 3)) := by
  intro p l e R s m args below meth c G H0 d C Q P cx hC hP L S H ho ls M locs fr
  simp only [oic] at ho
  split at ho
  · next y x S' => exact lv_icmp_le cx.1 cx.2.1 hd ht (fun q => hP _ _ _ _ (ho.1 ((ofi_le x y).mp q)) ls M locs fr) (fun q => hP _ _ _ _ (ho.2 (fun z => q ((ofi_le x y).mpr z))) ls M locs fr)
  · exact ho.elim
theorem sn_if_le {off : Int} {tg : Nat} (hd : decode cc pc = .ok (.ifCond .le off, 3)) (ht : (pc : Int) + off = (tg : Int)) : ZSn mt own nm de cc nL rt pc (oi0 (fun x y => x ≤ y) tg (pc + 3)) := by
  intro p l e R s m args below meth c G H0 d C Q P cx hC hP L S H ho ls M locs fr
  simp only [oi0] at ho
  split at ho
  · next x S' => exact lv_if_le cx.1 cx.2.1 hd ht (fun q => hP _ _ _ _ (ho.1 ((ofi_le0 x).mp q)) ls M locs fr) (fun q => hP _ _ _ _ (ho.2 (fun z => q ((ofi_le0 x).mpr z))) ls M locs fr)
  · exact ho.elim
theorem zref_rf (r : Nat) : zref r = va_rf (if r = 0 then none else some (r - 1)) := by
  cases r with
  | zero => rfl
  | succ a => simp [zref, va_rf]
theorem zrf_eq (x y : Nat) : ((if x = 0 then none else some (x - 1)) = (if y = 0 then none else some (y - 1) : Option Nat)) ↔ x = y := by
  by_cases hx : x = 0 <;> by_cases hy : y = 0 <;> simp [hx, hy]
  · omega
  · omega
theorem sn_acmp_eq {off : Int} {tg : Nat} (hd : decode cc pc = .ok (.if_acmp .eq off, 3)) (ht : (pc : Int) + off = (tg : Int)) : ZSn mt own nm de cc nL rt pc (oac tg (pc + 3)) := by
  intro p l e R s m args below meth c G H0 d C Q P cx hC hP L S H ho ls M locs fr
  simp only [oac] at ho
  split at ho
  · next y x S' =>
    simp only [List.map_cons, zval, zref_rf]
    exact lv_acmp_eq cx.1 cx.2.1 hd ht (fun q => hP _ _ _ _ (ho.1 ((zrf_eq x y).mp q)) ls M locs fr) (fun q => hP _ _ _ _ (ho.2 (fun z => q ((zrf_eq x y).mpr z))) ls M locs fr)
  · exact ho.elim
theorem sn_acmp_ne {off : Int} {tg : Nat} (hd : decode cc pc = .ok (.if_acmp .ne off, 3)) (ht : (pc : Int) + off = (tg : Int)) : ZSn mt own nm de cc nL rt pc (oac (pc + 3) tg) := by
  intro p l e R s m args below meth c G H0 d C Q P cx hC hP L S H ho ls M locs fr
  simp only [oac] at ho
  split at ho
  · next y x S' =>
    simp only [List.map_cons, zval, zref_rf]
    exact lv_acmp_ne cx.1 cx.2.1 hd ht (fun q => hP _ _ _ _ (ho.2 (fun z => q ((zrf_eq x y).mpr z))) ls M locs fr) (fun q => hP _ _ _ _ (ho.1 ((zrf_eq x y).mp q)) ls M locs fr)
  · exact ho.elim
theorem sn_ifnull {off : Int} {tg : Nat} (hd : decode cc pc = .ok (.ifnull off, 3)) (ht : (pc : Int) + off = (tg : Int)) : ZSn mt own nm de cc nL rt pc (onull tg (pc + 3)) := by
  intro p l e R s m args below meth c G H0 d C Q P cx hC hP L S H ho ls M locs fr
  simp only [onull] at ho
  split at ho
  · next x S' =>
    cases x with
    | zero => exact lv_ifnullN cx.1 cx.2.1 hd ht (hP _ _ _ _ (ho.1 rfl) ls M locs fr)
    | succ a => exact lv_ifnull cx.1 cx.2.1 hd (hP _ _ _ _ (ho.2 (Nat.succ_ne_zero a)) ls M locs fr)
  · exact ho.elim
theorem sn_ifnonnull {off : Int} {tg : Nat} (hd : decode cc pc = .ok (.ifnonnull off, 3)) (ht : (pc : Int) + off = (tg : Int)) : ZSn mt own nm de cc nL rt pc (onull (pc + 3) tg) := by
  intro p l e R s m args below meth c G H0 d C Q P cx hC hP L S H ho ls M locs fr
  simp only [onull] at ho
  split at ho
  · next x S' =>
    cases x with
    | zero => exact lv_ifnonnullN cx.1 cx.2.1 hd (hP _ _ _ _ (ho.1 rfl) ls M locs fr)
    | succ a => exact lv_ifnonnull cx.1 cx.2.1 hd ht (hP _ _ _ _ (ho.2 (Nat.succ_ne_zero a)) ls M locs fr)
  · exact ho.elim
theorem sn_goto {off : Int} {tg : Nat} (hd : decode cc pc = .ok (.goto off, 3)) (ht : (pc : Int) + off = (tg : Int)) : ZSn mt own nm de cc nL rt pc (ogoto tg) := by
  intro p l e R s m args below meth c G H0 d C Q P cx hC hP L S H ho ls M locs fr
  exact lv_goto cx.1 cx.2.1 hd ht (hP _ _ _ _ ho ls M locs fr)
theorem sn_tsw {df lo hi : Int} {offs : Array Int} {len dt : Nat} {tgs : List Nat} (hd : decode cc pc = .ok (.tableswitch df lo hi offs, len)) (hdf : (pc : Int) + df = (dt : Int)) (hn : hi = lo + tgs.length - 1) (htg : ∀ i t : Nat, tgs[i]? = some t → ∃ off, offs[i]? = some off ∧ (pc : Int) + off = (t : Int)) : ZSn mt own nm de cc nL rt pc (otsw lo hi tgs dt) := by
  intro p l e R s m args below meth c G H0 d C Q P cx hC hP L S H ho ls M locs fr
  simp only [otsw] at ho
  split at ho
  · next x S' =>
    by_cases q : zw x < lo ∨ hi < zw x
    · exact lv_tableOut cx.1 cx.2.1 hd (by rw [ofi_w]; exact q) hdf (hP _ _ _ _ (ho.1 q) ls M locs fr)
    · have h1 : lo ≤ zw x := by omega
      have h2 : (zw x - lo).toNat < tgs.length := by omega
      obtain ⟨off, e1, e2⟩ := htg _ _ (List.getElem?_eq_getElem h2)
      exact lv_tableIn cx.1 cx.2.1 hd (by rw [ofi_w]; omega) (by rw [ofi_w]; omega) (by rw [ofi_w]; exact e1) e2 (hP _ _ _ _ (ho.2 _ _ (List.getElem?_eq_getElem h2) (by omega)) ls M locs fr)
  · exact ho.elim
theorem zcat_I (x : Int) : (zval (zI x)).category = 1 := rfl
theorem zcat_R (r : Nat) : (zval (zR r)).category = 1 := by cases r <;> rfl
theorem zcat_1 {v : ZV} (h : ∀ x, v ≠ zJ x) : (zval v).category = 1 := by
  rcases v with x | x | r
  · rfl
  · exact absurd rfl (h x)
  · exact zcat_R r
theorem sn_dup (hd : decode cc pc = .ok (.dup, 1)) : ZSn mt own nm de cc nL rt pc (odup (pc + 1)) := by
  intro p l e R s m args below meth c G H0 d C Q P cx hC hP L S H ho ls M locs fr
  simp only [odup] at ho
  split at ho
  · next x S' => exact lv_dup cx.1 cx.2.1 hd (zcat_I x) (hP _ _ _ _ ho ls M locs fr)
  · next r S' => exact lv_dup cx.1 cx.2.1 hd (zcat_R r) (hP _ _ _ _ ho ls M locs fr)
  · exact ho.elim
theorem sn_pop (hd : decode cc pc = .ok (.pop, 1)) : ZSn mt own nm de cc nL rt pc (opop (pc + 1)) := by
  intro p l e R s m args below meth c G H0 d C Q P cx hC hP L S H ho ls M locs fr
  simp only [opop] at ho
  split at ho
  · next x S' => exact lv_pop cx.1 cx.2.1 hd (zcat_I x) (hP _ _ _ _ ho ls M locs fr)
  · next r S' => exact lv_pop cx.1 cx.2.1 hd (zcat_R r) (hP _ _ _ _ ho ls M locs fr)
  · exact ho.elim
theorem sn_dup_x1 (hd : decode cc pc = .ok (.dup_x1, 1)) : ZSn mt own nm de cc nL rt pc (odup_x1 (pc + 1)) := by
  intro p l e R s m args below meth c G H0 d C Q P cx hC hP L S H ho ls M locs fr
  simp only [odup_x1] at ho
  split at ho
  · exact ho.elim
  · exact ho.elim
  · next v w S' h1 h2 => exact lv_dup_x1 cx.1 cx.2.1 hd (zcat_1 (fun x e => h1 x e)) (zcat_1 (fun x e => h2 x e)) (hP _ _ _ _ ho ls M locs fr)
  · exact ho.elim
theorem sn_dup2 (hd : decode cc pc = .ok (.dup2, 1)) : ZSn mt own nm de cc nL rt pc (odup2 (pc + 1)) := by
  intro p l e R s m args below meth c G H0 d C Q P cx hC hP L S H ho ls M locs fr
  simp only [odup2] at ho
  split at ho
  · exact ho.elim
  · exact ho.elim
  · next v w S' h1 h2 => exact lv_dup2_11 cx.1 cx.2.1 hd (zcat_1 (fun x e => h1 x e)) (zcat_1 (fun x e => h2 x e)) (hP _ _ _ _ ho ls M locs fr)
  · exact ho.elim
end SN
