/-! THE ROOM, AND CALLS -/
theorem zsum_foldl (M : Heap) : M.foldl (fun n c => n + c.slots.size) 0 = zsum M := by
  have key : ∀ (l : List Cell) (k : Nat), l.foldl (fun n c => n + c.slots.size) k = k + (l.map (·.slots.size)).sum := by
    intro l
    induction l with
    | nil => intro k; simp
    | cons x l ih => intro k; simp [ih]; omega
  rw [← Array.foldl_toList, key]
  simp [zsum]
theorem zsum_used {U : State} (h : U.slotsTrue = true) : U.slotsUsed = zsum U.heap := by
  have h1 : U.slotsUsed = U.heap.foldl (fun n c => n + c.slots.size) 0 := by simpa [State.slotsTrue] using h
  rw [h1, zsum_foldl]
section ZX
variable {p : Program} {l : Launch} {e : Env} {R : Room} {s : State} {m : MethodId} {args : Array Value} {below : List Frame} {meth : Method} {c : Code} {G : ZG} {H0 H : ZH} {d : Nat} {own nm de : String} {cc : ByteArray} {nL : Nat} {rt : Option FieldType} {pc : Nat} {ls : Array Slot} {M : Heap} {locs : List Loc} {rest : List Value} {L : ZL} {Qm : State → Prop} {cells slots : Nat}
theorem zexact {T : State} (X : Stand p l e R s m args below meth c T locs cells slots) (hH : ZHeap G H T.heap) (h0 : s.heap.size + 1 = hN H0) (hs : zsum s.heap = hS H0) : Stand p l e R s m args below meth c T locs (hN H - hN H0) (hS H - hS H0) := by
  have hroom := X.room
  have h1 : s.slotsTrue = true := by
    simp only [State.hasRoom, Bool.and_eq_true] at hroom
    exact hroom.2
  have e1 := zsum_used h1
  have e2 := zsum_used X.book
  obtain ⟨q1, q2, q3, q4, q5, q6⟩ := X.same
  have e4 : T.slotsUsed = s.slotsUsed + ((T.heap.toList.drop s.heap.size).map (·.slots.size)).sum := q4
  have hsz : T.heap.size + 1 = hN H := hH.1.symm
  have hle : s.heap.size ≤ T.heap.size := q2
  refine { X with same := ⟨q1, q2, ?_, q4, ?_, q6⟩ }
  · show T.heap.size ≤ s.heap.size + (hN H - hN H0)
    omega
  · show ((T.heap.toList.drop s.heap.size).map (·.slots.size)).sum ≤ hS H - hS H0
    have := hH.2.1
    omega
/-- a call's run, and what comes behind it -/
theorem zafter {g : JFrame} {nx mc ms : Nat} {Qa : State → Outcome → State → Prop} {Q : ZQ} {S : ZS} (hrun : va_Run p l e R s m args below meth c M locs cells slots mc ms g rest Qa (zfree G)) (hg : g = F0 m pc ls g.stack) (hnx : nx = pc + 3) (hQ : ∀ st o t, Qa st o t → zQc G H Q args st o t)
    (hrest : rest = S.map zval) (h0 : s.heap.size + 1 = hN H0) (hs : zsum s.heap = hS H0) (hnx0 : ZNx H0 H) (hl : ∀ q ∈ locs, (zB G).size ≤ q.base)
    (kk : ∀ (r : ZS) (H' : ZH) (M' : Heap) (locs' : List Loc), Q r H' → ZHeap G H' M' → ZNx H0 H' → (∀ q ∈ locs', (zB G).size ≤ q.base) → W p l e R s m args below meth c M' locs' (hN H' - hN H0) (hS H' - hS H0) Qm (F0 m nx ls ((r ++ S).map zval))) : W p l e R s m args below meth c M locs cells slots Qm g := by
  intro T hT X
  obtain ⟨v, st₀, t, T', L', e1, X', hfree, e2, e3, hq, hgo⟩ := hrun T hT X
  obtain ⟨r, H', q1, q2, q3, q4, q5⟩ := hQ _ _ _ hq
  have hv : v = r.head?.map zval := by
    injection q3
  have hv2 : v.toList ++ rest = (r ++ S).map zval := by
    rw [hv, hrest]
    match r, q2 with
    | [], _ => rfl
    | [x], _ => rfl
    | _ :: _ :: _, h => simp at h
  rw [← e2] at q4
  have hN' : ZNx H0 H' := ⟨Nat.le_trans hnx0.1 q5.1, Nat.le_trans hnx0.2.1 q5.2.1, fun k => (q5.2.2.1 k).trans (hnx0.2.2.1 k), q5.2.2.2⟩
  have X'' := zexact X' q4 h0 hs
  obtain ⟨t', a1, b1⟩ := kk r H' T'.heap (locs ++ L') q1 q4 hN' (fun q hq => by
    rcases List.mem_append.mp hq with z | z
    · exact hl q z
    · exact hfree q z) T' rfl X''
  refine ⟨t', ?_, b1⟩
  rw [← hv2] at a1
  rw [hg] at hgo ⊢
  subst hnx
  exact hgo t' a1
/-- the same of an interface's -/
theorem zafter5 {g : JFrame} {nx mc ms : Nat} {Qa : State → Outcome → State → Prop} {Q : ZQ} {S : ZS} (hrun : va_Run5 p l e R s m args below meth c M locs cells slots mc ms g rest Qa (zfree G)) (hg : g = F0 m pc ls g.stack) (hnx : nx = pc + 5) (hQ : ∀ st o t, Qa st o t → zQc G H Q args st o t)
    (hrest : rest = S.map zval) (h0 : s.heap.size + 1 = hN H0) (hs : zsum s.heap = hS H0) (hnx0 : ZNx H0 H) (hl : ∀ q ∈ locs, (zB G).size ≤ q.base)
    (kk : ∀ (r : ZS) (H' : ZH) (M' : Heap) (locs' : List Loc), Q r H' → ZHeap G H' M' → ZNx H0 H' → (∀ q ∈ locs', (zB G).size ≤ q.base) → W p l e R s m args below meth c M' locs' (hN H' - hN H0) (hS H' - hS H0) Qm (F0 m nx ls ((r ++ S).map zval))) : W p l e R s m args below meth c M locs cells slots Qm g := by
  intro T hT X
  obtain ⟨v, st₀, t, T', L', e1, X', hfree, e2, e3, hq, hgo⟩ := hrun T hT X
  obtain ⟨r, H', q1, q2, q3, q4, q5⟩ := hQ _ _ _ hq
  have hv : v = r.head?.map zval := by
    injection q3
  have hv2 : v.toList ++ rest = (r ++ S).map zval := by
    rw [hv, hrest]
    match r, q2 with
    | [], _ => rfl
    | [x], _ => rfl
    | _ :: _ :: _, h => simp at h
  rw [← e2] at q4
  have hN' : ZNx H0 H' := ⟨Nat.le_trans hnx0.1 q5.1, Nat.le_trans hnx0.2.1 q5.2.1, fun k => (q5.2.2.1 k).trans (hnx0.2.2.1 k), q5.2.2.2⟩
  have X'' := zexact X' q4 h0 hs
  obtain ⟨t', a1, b1⟩ := kk r H' T'.heap (locs ++ L') q1 q4 hN' (fun q hq => by
    rcases List.mem_append.mp hq with z | z
    · exact hl q z
    · exact hfree q z) T' rfl X''
  refine ⟨t', ?_, b1⟩
  rw [← hv2] at a1
  rw [hg] at hgo ⊢
  subst hnx
  exact hgo t' a1
end ZX
theorem zfaces_ok : ∀ q ∈ zfaces, q.2.1.cls ≠ "java/lang/invoke/MethodHandle" ∧ q.2.1.cls ≠ "java/lang/invoke/VarHandle" := by decide +kernel
theorem ZLa.moved {G : ZG} {s U : State} {j : Nat} {q : MethodName × Nat × Nat × Lambda.Shape} (hW : s.WarmedH U.vm) (h : ZLa G s j q) : ZLa G U j q := by
  obtain ⟨m, k, i0, p0, ln, h1, h2, h3, h4, h5, h6⟩ := h
  obtain ⟨k', hk', he⟩ := hW.alike.2.2 _ _ h2
  have hm' : U.methodNamed? q.1 = some m := by
    have := State.methodNamed?_setVm (s := s) hW.alike q.1
    rw [h1] at this
    exact this
  have hcall' : U.lambdaCallable q.2.2.2 (G.1 (zNO + j)) = true := by
    have hA := hW.alike
    simp only [State.lambdaCallable, hA.findClass, hA.assignable, hA.superclasses, hA.declaredIn] at h5 ⊢
    exact h5
  exact ⟨m, k', i0, p0, ln, hm', hk', by rw [he]; exact h3, Lambda.isMade_warmer hW h4, hcall', h6⟩
theorem ZVm.moved {G : ZG} {s U : State} (hW : s.WarmedH U.vm) (h : ZVm G s) : ZVm G U := by
  obtain ⟨h1, h2, h3, h4, h5, h6, h7, h8, h9, h10, h11⟩ := h
  refine ⟨fun t q1 q2 => classAt_moved hW.alike (h1 t q1 q2), fun f hf => slotIs_moved hW.alike (h2 f hf), fun t ht => ⟨arrOfT_moved hW.alike (h3 t ht).1, (h3 t ht).2.moved hW.alike⟩, fun w hw hz => ?_, fun q hq => (h5 q hq).moved hW.alike, fun q hq => (h6 q hq).moved hW.alike, fun q hq => ⟨vk_R.warm hW (h7 q hq).1, (h7 q hq).2⟩, fun q hq => ⟨(h8 q hq).1.moved hW.alike, (h8 q hq).2⟩, fun q hq => va_Fw.moved (zfaces_ok q hq) hW.alike (h9 q hq), fun j q hq => (h10 j q hq).moved hW, va_Dc.moved hW.alike h11⟩
  have h0 := h4 w hw hz
  unfold zmv at hz
  split at hz
  · exact h0.warmF hW
  · exact h0.warmM hW
  · exact h0.warmC hW
  · exact va_AO.moved hW.alike h0
  · exact h0.warmD hW
  · cases hz
theorem ZVm.calling {G : ZG} {U : State} (g : JFrame) (mk : MethodId) (a : Array Value) (h : ZVm G U) : ZVm G (U.calling g mk a) := by
  have hvm : (U.calling g mk a).vm = U.vm := rfl
  exact h.moved (hvm ▸ State.WarmedH.refl U)
theorem zPc_blind {G : ZG} {as : ZS} {H : ZH} : FrameBlind (zPc G as H) := fun a U g mk h => ⟨h.1, h.2.1, h.2.2.calling g mk a⟩
/-- a method that the tables know: n its arguments but the receiver -/
def ZMv (y : ZY) (n : Nat) : Prop := Cond.instanceMethod y.1 ∈ lw_all ∧ Cond.initialized y.1.cls ∈ lw_all ∧ Cond.code y.1 y.2.1 y.2.2.1 y.2.2.2 ∈ lw_all ∧ (y.1.cls ≠ "java/lang/invoke/MethodHandle" ∧ y.1.cls ≠ "java/lang/invoke/VarHandle" ∧ (parseMethodDescriptor y.1.desc).map (fun d => d.parameters.length) = some n) ∧ y.2.2.1 ≤ 32
def ZMs (y : ZY) (n : Nat) : Prop := Cond.static y.1 ∈ lw_all ∧ Cond.initialized y.1.cls ∈ lw_all ∧ Cond.code y.1 y.2.1 y.2.2.1 y.2.2.2 ∈ lw_all ∧ (y.1.cls ≠ "java/lang/invoke/MethodHandle" ∧ y.1.cls ≠ "java/lang/invoke/VarHandle" ∧ (parseMethodDescriptor y.1.desc).map (fun d => d.parameters.length) = some n) ∧ y.2.2.1 ≤ 32
/-- from a contract to a run: a call at pc of a method of the receiver, whose tag is t -/
def ZRunV (own nm de : String) (cc : ByteArray) (nL : Nat) (rt : Option FieldType) (pc : Nat) (y : ZY) (n t : Nat) : Prop :=
  ∀ (p : Program) (l : Launch) (e : Env) (R : Room) (s : State) (m : MethodId) (args : Array Value) (below : List Frame) (meth : Method) (c : Code) (G : ZG) (H0 : ZH) (d : Nat), ZCx p R s m args meth c G H0 d own nm de cc nL rt →
    ∀ (H : ZH) (as : ZS) (Q : ZQ) (ls : Array Slot) (M : Heap) (locs : List Loc) (a : Nat) (cell : Cell) (rest : List Value), ZMet l G d y (zR (a + 1) :: as) H Q → as.length = n → ZNx H0 H → ls.size = nL → M[a]? = some cell → cell.vm = .none → cell.cls = G.1 t → ZHeap G H M → (rest.map fun v => v.category).sum ≤ 8 →
      va_Run p l e R s m args below meth c M locs (hN H - hN H0) (hS H - hS H0) (hE H 0 - hN H) (hE H 1 - hS H) (F0 m pc ls ((as.map zval).reverse ++ .ref a :: rest)) rest (zQc G H Q (Value.ref a :: as.map zval).toArray) (zfree G)
def ZRunS (own nm de : String) (cc : ByteArray) (nL : Nat) (rt : Option FieldType) (pc : Nat) (y : ZY) (n : Nat) : Prop :=
  ∀ (p : Program) (l : Launch) (e : Env) (R : Room) (s : State) (m : MethodId) (args : Array Value) (below : List Frame) (meth : Method) (c : Code) (G : ZG) (H0 : ZH) (d : Nat), ZCx p R s m args meth c G H0 d own nm de cc nL rt →
    ∀ (H : ZH) (as : ZS) (Q : ZQ) (ls : Array Slot) (M : Heap) (locs : List Loc) (rest : List Value), ZMet l G d y as H Q → as.length = n → ZNx H0 H → ls.size = nL → ZHeap G H M → (rest.map fun v => v.category).sum ≤ 8 →
      va_Run p l e R s m args below meth c M locs (hN H - hN H0) (hS H - hS H0) (hE H 0 - hN H) (hE H 1 - hS H) (F0 m pc ls ((as.map zval).reverse ++ rest)) rest (zQc G H Q (as.map zval).toArray) (zfree G)
section RV
variable {own nm de : String} {cc : ByteArray} {nL : Nat} {rt : Option FieldType} {pc : Nat}
theorem zpre {G : ZG} {H : ZH} {as : ZS} {s : State} {M : Heap} {vs : List Value} (hvs : vs = as.map zval) (hH : ZHeap G H M) (hV : ZVm G s) : ∀ U : State, U.heap = M → s.WarmedH U.vm → zPc G as H vs.toArray U := fun U hU hW => ⟨by rw [hvs], by rw [hU]; exact hH, hV.moved hW⟩
theorem zfits {H0 H : ZH} {d : Nat} (h : ZNx H0 H) : (hN H - hN H0) + (hE H 0 - hN H) ≤ (zroom (d + 1) H0).cells ∧ (hS H - hS H0) + (hE H 1 - hS H) ≤ (zroom (d + 1) H0).slots := by
  obtain ⟨h1, h2, h3, h4, h5⟩ := h
  have e0 := h3 0
  have e1 := h3 1
  constructor
  · show _ ≤ hE H0 0 - hN H0
    omega
  · show _ ≤ hE H0 1 - hS H0
    omega
theorem zroomR {d : Nat} {H0 H : ZH} {mL : Nat} (h : mL ≤ 32) : (zroom d H).frames + 1 ≤ (zroom (d + 1) H0).frames ∧ 8 + (mL + 11) + (zroom d H).locals ≤ (zroom (d + 1) H0).locals := ⟨by show 2 * d + 1 ≤ 2 * (d + 1); omega, by show 8 + (mL + 11) + (3100 + 128 * d) ≤ 3100 + 128 * (d + 1); omega⟩
theorem zcls_at {G : ZG} {s : State} (hV : ZVm G s) {t : Nat} (h0 : 0 < t) (ht : t < 50) : s.vm.findClass (znm t) = some (G.1 t) := (hV.1 t h0 (by unfold zNO; omega)).1
/-- the method that is named is the one that runs -/
theorem run_V {idx n t : Nat} {y : ZY} (hd : decode cc pc = .ok (.invokevirtual idx, 3)) (hl : Cond.methodLink own idx y.1 ∈ lw_all) (hy : ZMv y n) (hsel : Cond.selects (znm t) y.1 y.1 ∈ lw_all) (h0 : 0 < t) (ht : t < 50) : ZRunV own nm de cc nL rt pc y n t := by
  intro p l e R s m args below meth c G H0 d cx H as Q ls M locs a cell rest hM hn hnx hsz hc1 hc2 hc3 hH hr
  obtain ⟨y1, y2, y3, y4, y5⟩ := hy
  have hts := cx.2.2.2.2.2.2.1
  have hV := cx.2.2.2.2.2.2.2.1
  have hR : R = zroom (d + 1) H0 := cx.2.2.2.2.2.2.2.2.1
  exact va_runV (C := znm t) (nL := nL) (As := as.map zval) (Ts := lw_all) ⟨cx.1, cx.2.1, cx.2.2.2.2.1, cx.2.2.2.2.2.1, hts⟩ hM
    ⟨callB_of n hts (lw_meth y3) rfl rfl rfl (hts _ y2) (hts _ hl) y4 (by rw [hR]; exact zroomR y5), hts _ y1, hts _ hsel⟩
    ⟨zPc_blind, ⟨cell, hc1, by rw [hc2]; rfl, by rw [hc3]; exact zcls_at hV h0 ht⟩, zpre rfl hH hV⟩ rfl (by rw [List.length_map, hn]) hsz rfl (lv_room hr) hd (by rw [hR]; exact zfits hnx)
/-- a nest mate's private method -/
theorem run_VN {idx n t : Nat} {host : String} {y : ZY} (hd : decode cc pc = .ok (.invokevirtual idx, 3)) (hl : Cond.methodLinkNest own idx y.1 host ∈ lw_tbl) (hy : ZMv y n) (hsel : Cond.selects (znm t) y.1 y.1 ∈ lw_all) (h0 : 0 < t) (ht : t < 50) : ZRunV own nm de cc nL rt pc y n t := by
  intro p l e R s m args below meth c G H0 d cx H as Q ls M locs a cell rest hM hn hnx hsz hc1 hc2 hc3 hH hr
  obtain ⟨y1, y2, y3, y4, y5⟩ := hy
  have hts := cx.2.2.2.2.2.2.1
  have hV := cx.2.2.2.2.2.2.2.1
  have hR : R = zroom (d + 1) H0 := cx.2.2.2.2.2.2.2.2.1
  exact va_runVN (C := znm t) (nL := nL) (As := as.map zval) (Ts := lw_all) ⟨cx.1, cx.2.1, cx.2.2.2.2.1, cx.2.2.2.2.2.1, hts⟩ hM
    ⟨va_cnB n hts (lw_meth y3) rfl rfl rfl (hV.2.2.2.1 _ hl rfl) (hts _ y2) y4 (by rw [hR]; exact zroomR y5), hts _ y1, hts _ hsel⟩
    ⟨zPc_blind, ⟨cell, hc1, by rw [hc2]; rfl, by rw [hc3]; exact zcls_at hV h0 ht⟩, zpre rfl hH hV⟩ rfl (by rw [List.length_map, hn]) hsz rfl (lv_room hr) hd (by rw [hR]; exact zfits hnx)
/-- a constructor -/
theorem run_I {idx n t : Nat} {y : ZY} (hd : decode cc pc = .ok (.invokespecial idx, 3)) (hl : Cond.methodLink own idx y.1 ∈ lw_all) (hy : ZMv y n) (hnm : y.1.name = "<init>") (hret : y.2.2.2 = none) : ZRunV own nm de cc nL rt pc y n t := by
  intro p l e R s m args below meth c G H0 d cx H as Q ls M locs a cell rest hM hn hnx hsz hc1 hc2 hc3 hH hr
  obtain ⟨y1, y2, y3, y4, y5⟩ := hy
  have hts := cx.2.2.2.2.2.2.1
  have hV := cx.2.2.2.2.2.2.2.1
  have hR : R = zroom (d + 1) H0 := cx.2.2.2.2.2.2.2.2.1
  unfold ZMet at hM
  rw [hret] at hM y3
  exact va_runI (nL := nL) (As := as.map zval) (Ts := lw_all) ⟨cx.1, cx.2.1, cx.2.2.2.2.1, cx.2.2.2.2.2.1, hts⟩ hM
    ⟨callB_of n hts (lw_meth y3) rfl rfl rfl (hts _ y2) (hts _ hl) y4 (by rw [hR]; exact zroomR y5), hnm, hts _ y1⟩
    ⟨zPc_blind, zpre rfl hH hV⟩ rfl (by rw [List.length_map, hn]) hsz rfl (lv_room hr) hd (by rw [hR]; exact zfits hnx)
/-- a nest mate's private constructor -/
theorem run_IN {idx n t : Nat} {host : String} {y : ZY} (hd : decode cc pc = .ok (.invokespecial idx, 3)) (hl : Cond.methodLinkNest own idx y.1 host ∈ lw_tbl) (hy : ZMv y n) (hnm : y.1.name = "<init>") (hret : y.2.2.2 = none) : ZRunV own nm de cc nL rt pc y n t := by
  intro p l e R s m args below meth c G H0 d cx H as Q ls M locs a cell rest hM hn hnx hsz hc1 hc2 hc3 hH hr
  obtain ⟨y1, y2, y3, y4, y5⟩ := hy
  have hts := cx.2.2.2.2.2.2.1
  have hV := cx.2.2.2.2.2.2.2.1
  have hR : R = zroom (d + 1) H0 := cx.2.2.2.2.2.2.2.2.1
  unfold ZMet at hM
  rw [hret] at hM y3
  exact va_runIN (nL := nL) (As := as.map zval) (Ts := lw_all) ⟨cx.1, cx.2.1, cx.2.2.2.2.1, cx.2.2.2.2.2.1, hts⟩ hM
    ⟨va_cnB n hts (lw_meth y3) rfl rfl rfl (hV.2.2.2.1 _ hl rfl) (hts _ y2) y4 (by rw [hR]; exact zroomR y5), hnm, hts _ y1⟩
    ⟨zPc_blind, zpre rfl hH hV⟩ rfl (by rw [List.length_map, hn]) hsz rfl (lv_room hr) hd (by rw [hR]; exact zfits hnx)
theorem run_S {idx n : Nat} {y : ZY} (hd : decode cc pc = .ok (.invokestatic idx, 3)) (hl : Cond.methodLink own idx y.1 ∈ lw_all) (hy : ZMs y n) : ZRunS own nm de cc nL rt pc y n := by
  intro p l e R s m args below meth c G H0 d cx H as Q ls M locs rest hM hn hnx hsz hH hr
  obtain ⟨y1, y2, y3, y4, y5⟩ := hy
  have hts := cx.2.2.2.2.2.2.1
  have hV := cx.2.2.2.2.2.2.2.1
  have hR : R = zroom (d + 1) H0 := cx.2.2.2.2.2.2.2.2.1
  exact va_runS (nL := nL) (As := as.map zval) (Ts := lw_all) ⟨cx.1, cx.2.1, cx.2.2.2.2.1, cx.2.2.2.2.2.1, hts⟩ hM
    ⟨callB_of n hts (lw_meth y3) rfl rfl rfl (hts _ y2) (hts _ hl) y4 (by rw [hR]; exact zroomR y5), hts _ y1⟩
    ⟨zPc_blind, zpre rfl hH hV⟩ rfl (by rw [List.length_map, hn]) hsz rfl (lv_room hr) hd (by rw [hR]; exact zfits hnx)
theorem run_SN {idx n : Nat} {host : String} {y : ZY} (hd : decode cc pc = .ok (.invokestatic idx, 3)) (hl : Cond.methodLinkNest own idx y.1 host ∈ lw_tbl) (hy : ZMs y n) : ZRunS own nm de cc nL rt pc y n := by
  intro p l e R s m args below meth c G H0 d cx H as Q ls M locs rest hM hn hnx hsz hH hr
  obtain ⟨y1, y2, y3, y4, y5⟩ := hy
  have hts := cx.2.2.2.2.2.2.1
  have hV := cx.2.2.2.2.2.2.2.1
  have hR : R = zroom (d + 1) H0 := cx.2.2.2.2.2.2.2.2.1
  exact va_runSN (nL := nL) (As := as.map zval) (Ts := lw_all) ⟨cx.1, cx.2.1, cx.2.2.2.2.1, cx.2.2.2.2.2.1, hts⟩ hM
    ⟨va_cnB n hts (lw_meth y3) rfl rfl rfl (hV.2.2.2.1 _ hl rfl) (hts _ y2) y4 (by rw [hR]; exact zroomR y5), hts _ y1, trivial⟩
    ⟨zPc_blind, zpre rfl hH hV⟩ rfl (by rw [List.length_map, hn]) hsz rfl (lv_room hr) hd (by rw [hR]; exact zfits hnx)
/-- inherited: named by x, found in y's class -/
theorem run_U {idx n t : Nat} {x : MethodName} {y : ZY} (hd : decode cc pc = .ok (.invokevirtual idx, 3)) (hl : Cond.methodLink own idx x ∈ lw_all) (hsm : Cond.sameMethod x.cls y.1.cls x.name x.desc ∈ lw_all) (hxy : y.1 = ⟨y.1.cls, x.name, x.desc⟩) (hy : ZMv y n) (hsel : Cond.selects (znm t) x y.1 ∈ lw_all) (h0 : 0 < t) (ht : t < 50) : ZRunV own nm de cc nL rt pc y n t := by
  intro p l e R s m args below meth c G H0 d cx H as Q ls M locs a cell rest hM hn hnx hsz hc1 hc2 hc3 hH hr
  obtain ⟨y1, y2, y3, y4, y5⟩ := hy
  have hts := cx.2.2.2.2.2.2.1
  have hV := cx.2.2.2.2.2.2.2.1
  have hR : R = zroom (d + 1) H0 := cx.2.2.2.2.2.2.2.2.1
  have hdd : y.1.desc = x.desc := by rw [hxy]
  refine va_runU (C := znm t) (nL := nL) (As := as.map zval) (Ts := lw_all) ⟨cx.1, cx.2.1, cx.2.2.2.2.1, cx.2.2.2.2.2.1, hts⟩ hM
    (va_cwU (owner := y.1.cls) (x := x) n hts ?_ rfl rfl rfl hxy ⟨y4.1, y4.2.1, by rw [← hdd]; exact y4.2.2⟩ (by rw [hR]; exact zroomR y5))
    ⟨zPc_blind, ⟨cell, hc1, by rw [hc2]; rfl, by rw [hc3]; exact zcls_at hV h0 ht⟩, zpre rfl hH hV⟩ rfl (by rw [List.length_map, hn]) hsz rfl (lv_room hr) hd (by rw [hR]; exact zfits hnx)
  refine lw_app ?_ (lw_meth y3)
  intro w hw
  simp only [List.mem_cons, List.not_mem_nil, or_false] at hw
  rcases hw with z | z | z | z | z
  · rw [z]; exact hl
  · rw [z]; exact hsm
  · rw [z]; exact hsel
  · rw [z]; exact y1
  · rw [z]; exact y2
/-- overridden, or abstract where it is named: declared in the class 'owner' -/
theorem run_A {idx n t : Nat} {x : MethodName} {y : ZY} {owner : String} (hd : decode cc pc = .ok (.invokevirtual idx, 3)) (hl : Cond.methodLink own idx x ∈ lw_all) (hsm : Cond.sameMethod x.cls owner x.name x.desc ∈ lw_all) (hdc : Cond.declares ⟨owner, x.name, x.desc⟩ ∈ lw_tbl) (ho : owner ≠ "java/lang/invoke/MethodHandle" ∧ owner ≠ "java/lang/invoke/VarHandle") (hdd : y.1.desc = x.desc) (hy : ZMv y n) (hsel : Cond.selects (znm t) x y.1 ∈ lw_all) (h0 : 0 < t) (ht : t < 50) : ZRunV own nm de cc nL rt pc y n t := by
  intro p l e R s m args below meth c G H0 d cx H as Q ls M locs a cell rest hM hn hnx hsz hc1 hc2 hc3 hH hr
  obtain ⟨y1, y2, y3, y4, y5⟩ := hy
  have hts := cx.2.2.2.2.2.2.1
  have hV := cx.2.2.2.2.2.2.2.1
  have hR : R = zroom (d + 1) H0 := cx.2.2.2.2.2.2.2.2.1
  refine va_runU (C := znm t) (nL := nL) (As := as.map zval) (Ts := lw_all) ⟨cx.1, cx.2.1, cx.2.2.2.2.1, cx.2.2.2.2.2.1, hts⟩ hM
    (va_cwA (owner := owner) (x := x) n hts ?_ rfl rfl rfl (hV.2.2.2.1 _ hdc rfl) ⟨ho.1, ho.2, by rw [← hdd]; exact y4.2.2⟩ (by rw [hR]; exact zroomR y5))
    ⟨zPc_blind, ⟨cell, hc1, by rw [hc2]; rfl, by rw [hc3]; exact zcls_at hV h0 ht⟩, zpre rfl hH hV⟩ rfl (by rw [List.length_map, hn]) hsz rfl (lv_room hr) hd (by rw [hR]; exact zfits hnx)
  refine lw_app ?_ (lw_meth y3)
  intro w hw
  simp only [List.mem_cons, List.not_mem_nil, or_false] at hw
  rcases hw with z | z | z | z | z
  · rw [z]; exact hl
  · rw [z]; exact hsm
  · rw [z]; exact hsel
  · rw [z]; exact y1
  · rw [z]; exact y2
/-- super.method() -/
theorem run_SU {idx n t : Nat} {y : ZY} (hd : decode cc pc = .ok (.invokespecial idx, 3)) (hl : Cond.methodLink own idx y.1 ∈ lw_all) (hsm : Cond.sameMethod y.1.cls y.1.cls y.1.name y.1.desc ∈ lw_all) (hsu : Cond.superclass own y.1.cls ∈ lw_all) (hnm : y.1.name ≠ "<init>") (hy : ZMv y n) (h0 : 0 < t) (ht : t < 50) : ZRunV own nm de cc nL rt pc y n t := by
  intro p l e R s m args below meth c G H0 d cx H as Q ls M locs a cell rest hM hn hnx hsz hc1 hc2 hc3 hH hr
  obtain ⟨y1, y2, y3, y4, y5⟩ := hy
  have hts := cx.2.2.2.2.2.2.1
  have hV := cx.2.2.2.2.2.2.2.1
  have hR : R = zroom (d + 1) H0 := cx.2.2.2.2.2.2.2.2.1
  refine va_runSU (C := znm t) (nL := nL) (As := as.map zval) (Ts := lw_all) (hV.1 t h0 (by unfold zNO; omega)) ⟨cx.1, cx.2.1, cx.2.2.2.2.1, cx.2.2.2.2.2.1, hts⟩ hM
    (va_cwSU n hts ?_ rfl rfl rfl ⟨hnm, y4.2.2⟩ (by rw [hR]; exact zroomR y5))
    ⟨zPc_blind, ⟨cell, hc1, by rw [hc2]; rfl, by rw [hc3]; exact zcls_at hV h0 ht⟩, zpre rfl hH hV⟩ rfl (by rw [List.length_map, hn]) hsz rfl (lv_room hr) hd (by rw [hR]; exact zfits hnx)
  refine lw_app ?_ (lw_meth y3)
  intro w hw
  simp only [List.mem_cons, List.not_mem_nil, or_false] at hw
  rcases hw with z | z | z | z | z
  · rw [z]; exact hl
  · rw [z]; exact hsm
  · rw [z]; exact hsu
  · rw [z]; exact y1
  · rw [z]; exact y2
/-- the same of an interface's method: five bytes -/
def ZRunF (own nm de : String) (cc : ByteArray) (nL : Nat) (rt : Option FieldType) (pc : Nat) (y : ZY) (n t : Nat) : Prop :=
  ∀ (p : Program) (l : Launch) (e : Env) (R : Room) (s : State) (m : MethodId) (args : Array Value) (below : List Frame) (meth : Method) (c : Code) (G : ZG) (H0 : ZH) (d : Nat), ZCx p R s m args meth c G H0 d own nm de cc nL rt →
    ∀ (H : ZH) (as : ZS) (Q : ZQ) (ls : Array Slot) (M : Heap) (locs : List Loc) (a : Nat) (cell : Cell) (rest : List Value), ZMet l G d y (zR (a + 1) :: as) H Q → as.length = n → ZNx H0 H → ls.size = nL → M[a]? = some cell → cell.vm = .none → cell.cls = G.1 t → ZHeap G H M → (rest.map fun v => v.category).sum ≤ 8 →
      va_Run5 p l e R s m args below meth c M locs (hN H - hN H0) (hS H - hS H0) (hE H 0 - hN H) (hE H 1 - hS H) (F0 m pc ls ((as.map zval).reverse ++ .ref a :: rest)) rest (zQc G H Q (Value.ref a :: as.map zval).toArray) (zfree G)
theorem run_F {idx count n t : Nat} {x : MethodName} {y : ZY} (hd : decode cc pc = .ok (.invokeinterface idx count, 5)) (hl : Cond.methodLink own idx x ∈ lw_all) (hf : (znm t, x, y.1) ∈ zfaces) (hdd : y.1.desc = x.desc) (hy : ZMv y n) (hsel : Cond.selects (znm t) x y.1 ∈ lw_all) (h0 : 0 < t) (ht : t < 50) : ZRunF own nm de cc nL rt pc y n t := by
  intro p l e R s m args below meth c G H0 d cx H as Q ls M locs a cell rest hM hn hnx hsz hc1 hc2 hc3 hH hr
  obtain ⟨y1, y2, y3, y4, y5⟩ := hy
  have hts := cx.2.2.2.2.2.2.1
  have hV := cx.2.2.2.2.2.2.2.1
  have hR : R = zroom (d + 1) H0 := cx.2.2.2.2.2.2.2.2.1
  have ho := zfaces_ok _ hf
  refine va_runF (C := znm t) (nL := nL) (As := as.map zval) (Ts := lw_all) (hV.1 t h0 (by unfold zNO; omega)) ⟨cx.1, cx.2.1, cx.2.2.2.2.1, cx.2.2.2.2.2.1, hts⟩ hM
    (va_cwF (x := x) n hts ?_ rfl rfl rfl (hV.2.2.2.2.2.2.2.2.1 _ hf) ⟨ho.1, ho.2, by rw [← hdd]; exact y4.2.2⟩ (by rw [hR]; exact zroomR y5))
    ⟨zPc_blind, ⟨cell, hc1, by rw [hc2]; rfl, by rw [hc3]; exact zcls_at hV h0 ht⟩, zpre rfl hH hV⟩ rfl (by rw [List.length_map, hn]) hsz rfl (lv_room hr) hd (by rw [hR]; exact zfits hnx)
  refine lw_app ?_ (lw_meth y3)
  intro w hw
  simp only [List.mem_cons, List.not_mem_nil, or_false] at hw
  rcases hw with z | z | z | z
  · rw [z]; exact hl
  · rw [z]; exact hsel
  · rw [z]; exact y1
  · rw [z]; exact y2
end RV
