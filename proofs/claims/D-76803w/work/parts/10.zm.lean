/-! THE CLEAN MACHINE. ints are Int mod 2^32 (2^64), refs are Nat (0: null; a+1: the cell at a) -/
def zarrs : List Nat := [101, 102, 103, 104, 110, 111, 112, 113, 114, 121, 122, 130, 133]
abbrev ZV : Type := Int ⊕ (Int ⊕ Nat)
abbrev zI (x : Int) : ZV := Sum.inl x
abbrev zJ (x : Int) : ZV := Sum.inr (Sum.inl x)
abbrev zR (r : Nat) : ZV := Sum.inr (Sum.inr r)
abbrev ZL : Type := List (Option ZV)
abbrev ZS : Type := List ZV
/-- fields that hold numbers, fields that hold references, arrays of numbers, arrays of references, tag, length, next, slots, constants -/
abbrev ZH : Type := (Nat → Nat → Int) × (Nat → Nat → Nat) × (Nat → Nat → Int) × (Nat → Nat → Nat) × (Nat → Nat) × (Nat → Nat) × Nat × Nat × (Nat → Nat)
def hI (H : ZH) (f r : Nat) : Int := H.1 f r
def hR (H : ZH) (f r : Nat) : Nat := H.2.1 f r
def hA (H : ZH) (r i : Nat) : Int := H.2.2.1 r i
def hQ (H : ZH) (r i : Nat) : Nat := H.2.2.2.1 r i
def hT (H : ZH) (r : Nat) : Nat := H.2.2.2.2.1 r
def hL (H : ZH) (r : Nat) : Nat := H.2.2.2.2.2.1 r
def hN (H : ZH) : Nat := H.2.2.2.2.2.2.1
def hS (H : ZH) : Nat := H.2.2.2.2.2.2.2.1
def hE (H : ZH) (k : Nat) : Nat := H.2.2.2.2.2.2.2.2 k
def uI (H : ZH) (f r : Nat) (v : Int) : ZH := (fun g s => if g = f ∧ s = r then v else H.1 g s, H.2)
def uR (H : ZH) (f r : Nat) (v : Nat) : ZH := (H.1, fun g s => if g = f ∧ s = r then v else H.2.1 g s, H.2.2)
def uA (H : ZH) (r i : Nat) (v : Int) : ZH := (H.1, H.2.1, fun s j => if s = r ∧ j = i then v else H.2.2.1 s j, H.2.2.2)
def uQ (H : ZH) (r i : Nat) (v : Nat) : ZH := (H.1, H.2.1, H.2.2.1, fun s j => if s = r ∧ j = i then v else H.2.2.2.1 s j, H.2.2.2.2)
/-- a new object with tag t of n slots, all fields 0 -/
def uO (H : ZH) (t n : Nat) : ZH := (fun g s => if s = hN H then 0 else H.1 g s, fun g s => if s = hN H then 0 else H.2.1 g s, H.2.2.1, H.2.2.2.1, fun s => if s = hN H then t else H.2.2.2.2.1 s, H.2.2.2.2.2.1, hN H + 1, hS H + n, H.2.2.2.2.2.2.2.2)
/-- a new array with tag t of n elements, all 0 -/
def uY (H : ZH) (t n : Nat) : ZH := (H.1, H.2.1, fun s j => if s = hN H then 0 else H.2.2.1 s j, fun s j => if s = hN H then 0 else H.2.2.2.1 s j, fun s => if s = hN H then t else H.2.2.2.2.1 s, fun s => if s = hN H then n else H.2.2.2.2.2.1 s, hN H + 1, hS H + n, H.2.2.2.2.2.2.2.2)
def zw (x : Int) : Int := Int.bmod x 4294967296
def zwl (x : Int) : Int := Int.bmod x 18446744073709551616
abbrev ZQ : Type := ZS → ZH → Prop
abbrev ZN : Type := Nat → ZL → ZS → ZH → Prop
abbrev ZC : Type := Nat → ZS → ZH → ZQ → Prop
abbrev ZO : Type := ZC → ZL → ZS → ZH → ZN → ZQ → Prop
abbrev ZT : Type := List (Nat × List (Nat × ZO))
def zlk1 : List (Nat × ZO) → Nat → Option ZO
  | [], _ => none
  | (n, o) :: l, pc => if Nat.beq n pc = true then some o else zlk1 l pc
def zlk : ZT → Nat → Option ZO
  | [], _ => none
  | (n, b) :: l, pc => if Nat.blt pc n = true then zlk1 b pc else zlk l pc
def zstep (C : ZC) (T : ZT) (Q : ZQ) (P : ZN) (pc : Nat) (L : ZL) (S : ZS) (H : ZH) : Prop := match zlk T pc with
  | some o => o C L S H P Q
  | none => False
/-- the locals L0 know no more than L -/
def zle (L0 L : ZL) : Prop := L0.length = L.length ∧ ∀ (i : Nat) (v : ZV), L0[i]? = some (some v) → L[i]? = some (some v)
def zwp (C : ZC) (T : ZT) (Q : ZQ) (pc : Nat) (L : ZL) (S : ZS) (H : ZH) : Prop := ∀ P : ZN, (∀ (pc : Nat) (L0 L : ZL) (S : ZS) (H : ZH), zle L0 L → P pc L0 S H → P pc L S H) → (∀ (P' : ZN) (pc : Nat) (L : ZL) (S : ZS) (H : ZH), (∀ pc L S H, P' pc L S H → P pc L S H) → zstep C T Q P' pc L S H → P pc L S H) → P pc L S H
theorem zwp_1 {C : ZC} {T : ZT} {Q : ZQ} {pc : Nat} {L : ZL} {S : ZS} {H : ZH} (P' : ZN) (h1 : ∀ pc L S H, P' pc L S H → zwp C T Q pc L S H) (h2 : zstep C T Q P' pc L S H) : zwp C T Q pc L S H :=
  fun P hL hP => hP P' pc L S H (fun pc L S H h => h1 pc L S H h P hL hP) h2
theorem zwp_le {C : ZC} {T : ZT} {Q : ZQ} {pc : Nat} {L0 L : ZL} {S : ZS} {H : ZH} (h : zle L0 L) (hw : zwp C T Q pc L0 S H) : zwp C T Q pc L S H := fun P hL hP => hL pc L0 L S H h (hw P hL hP)
theorem zle_nil : zle [] [] := ⟨rfl, fun i v h => by cases h⟩
theorem zle_s {x : Option ZV} {L0 L : ZL} (h : zle L0 L) : zle (x :: L0) (x :: L) := ⟨congrArg (· + 1) h.1, fun i v hi => by
  cases i with
  | zero => exact hi
  | succ i => exact h.2 i v hi⟩
theorem zle_n {x : Option ZV} {L0 L : ZL} (h : zle L0 L) : zle (none :: L0) (x :: L) := ⟨congrArg (· + 1) h.1, fun i v hi => by
  cases i with
  | zero => cases hi
  | succ i => exact h.2 i v hi⟩
theorem zle_r (L : ZL) : zle L L := ⟨rfl, fun _ _ h => h⟩
def zstepN (C : ZC) (T : ZT) (Q : ZQ) : Nat → ZN → ZN
  | 0, P => P
  | n + 1, P => zstep C T Q (zstepN C T Q n P)
theorem zwp_n {C : ZC} {T : ZT} {Q : ZQ} (n : Nat) : ∀ {pc : Nat} {L : ZL} {S : ZS} {H : ZH}, zstepN C T Q n (zwp C T Q) pc L S H → zwp C T Q pc L S H := by
  induction n with
  | zero => intro pc L S H h; exact h
  | succ n ih => intro pc L S H h; exact zwp_1 (zstepN C T Q n (zwp C T Q)) (fun _ _ _ _ h => ih h) h
/-! the operations: constants, variables, arithmetic -/
def oconst (v : ZV) (nx : Nat) : ZO := fun _ L S H K _ => K nx L (v :: S) H
/-- a constant of the world: a static, a String, a Class -/
def ostat (k nx : Nat) : ZO := fun _ L S H K _ => K nx L (zR (hE H k) :: S) H
def oldI (n nx : Nat) : ZO := fun _ L S H K _ => match L[n]? with
  | some (some (.inl x)) => K nx L (zI x :: S) H
  | _ => False
def oldJ (n nx : Nat) : ZO := fun _ L S H K _ => match L[n]? with
  | some (some (.inr (.inl x))) => K nx L (zJ x :: S) H
  | _ => False
def oldR (n nx : Nat) : ZO := fun _ L S H K _ => match L[n]? with
  | some (some (.inr (.inr r))) => K nx L (zR r :: S) H
  | _ => False
/-- a store clears a long that begins one place below -/
def zclr (L : ZL) (n : Nat) : ZL := match n with
  | 0 => L
  | i + 1 => match L[i]? with
    | some (some (.inr (.inl _))) => L.set i none
    | _ => L
def ostI (n nx : Nat) : ZO := fun _ L S H K _ => match S with
  | .inl x :: S => n < L.length ∧ K nx ((zclr L n).set n (some (zI x))) S H
  | _ => False
def ostR (n nx : Nat) : ZO := fun _ L S H K _ => match S with
  | .inr (.inr r) :: S => n < L.length ∧ K nx ((zclr L n).set n (some (zR r))) S H
  | _ => False
def ost2 (n nx : Nat) : ZO := fun _ L S H K _ => match S with
  | .inr (.inl v) :: S => n + 1 < L.length ∧ K nx (((zclr L n).set n (some (zJ v))).set (n + 1) none) S H
  | _ => False
def oinc (n : Nat) (k : Int) (nx : Nat) : ZO := fun _ L S H K _ => match L[n]? with
  | some (some (.inl x)) => K nx (L.set n (some (zI (x + k)))) S H
  | _ => False
def oii (f : Int → Int → Int) (nx : Nat) : ZO := fun _ L S H K _ => match S with
  | .inl y :: .inl x :: S => K nx L (zI (f x y) :: S) H
  | _ => False
def oll (f : Int → Int → Int) (nx : Nat) : ZO := fun _ L S H K _ => match S with
  | .inr (.inl y) :: .inr (.inl x) :: S => K nx L (zJ (f x y) :: S) H
  | _ => False
def oidiv (nx : Nat) : ZO := fun _ L S H K _ => match S with
  | .inl y :: .inl x :: S => zw y ≠ 0 ∧ K nx L (zI (Int.tdiv (zw x) (zw y)) :: S) H
  | _ => False
def oirem (nx : Nat) : ZO := fun _ L S H K _ => match S with
  | .inl y :: .inl x :: S => zw y ≠ 0 ∧ K nx L (zI (Int.tmod (zw x) (zw y)) :: S) H
  | _ => False
def oldiv (nx : Nat) : ZO := fun _ L S H K _ => match S with
  | .inr (.inl y) :: .inr (.inl x) :: S => zwl y ≠ 0 ∧ K nx L (zJ (Int.tdiv (zwl x) (zwl y)) :: S) H
  | _ => False
def zand (x y : Int) : Int := (Int32.ofInt x &&& Int32.ofInt y).toInt
def zor (x y : Int) : Int := (Int32.ofInt x ||| Int32.ofInt y).toInt
def zxor (x y : Int) : Int := (Int32.ofInt x ^^^ Int32.ofInt y).toInt
def zshl (x y : Int) : Int := (Int32.ofInt x <<< (Int32.ofInt y &&& 31)).toInt
def zshr (x y : Int) : Int := (Int32.ofInt x >>> (Int32.ofInt y &&& 31)).toInt
def zushr (x y : Int) : Int := (((Int32.ofInt x).toUInt32 >>> ((Int32.ofInt y).toUInt32 &&& Int32.toUInt32 31)).toInt32).toInt
def zlcmp (x y : Int) : Int := if zwl x < zwl y then -1 else if zwl x = zwl y then 0 else 1
def oi1 (f : Int → Int) (nx : Nat) : ZO := fun _ L S H K _ => match S with
  | .inl x :: S => K nx L (zI (f x) :: S) H
  | _ => False
def oi2l (nx : Nat) : ZO := fun _ L S H K _ => match S with
  | .inl x :: S => K nx L (zJ (zw x) :: S) H
  | _ => False
def ol2i (nx : Nat) : ZO := fun _ L S H K _ => match S with
  | .inr (.inl x) :: S => K nx L (zI x :: S) H
  | _ => False
def oi2b (nx : Nat) : ZO := fun _ L S H K _ => match S with
  | .inl x :: S => K nx L (zI (Int.bmod x 256) :: S) H
  | _ => False
def oi2c (nx : Nat) : ZO := fun _ L S H K _ => match S with
  | .inl x :: S => K nx L (zI (x % 65536) :: S) H
  | _ => False
def olcmp (nx : Nat) : ZO := fun _ L S H K _ => match S with
  | .inr (.inl y) :: .inr (.inl x) :: S => K nx L (zI (zlcmp x y) :: S) H
  | _ => False
/-! branches -/
def oic (P : Int → Int → Prop) (tg nx : Nat) : ZO := fun _ L S H K _ => match S with
  | .inl y :: .inl x :: S => (P (zw x) (zw y) → K tg L S H) ∧ (¬ P (zw x) (zw y) → K nx L S H)
  | _ => False
def oi0 (P : Int → Int → Prop) (tg nx : Nat) : ZO := fun _ L S H K _ => match S with
  | .inl x :: S => (P (zw x) 0 → K tg L S H) ∧ (¬ P (zw x) 0 → K nx L S H)
  | _ => False
def oac (tg nx : Nat) : ZO := fun _ L S H K _ => match S with
  | .inr (.inr y) :: .inr (.inr x) :: S => (x = y → K tg L S H) ∧ (¬ x = y → K nx L S H)
  | _ => False
def onull (tg nx : Nat) : ZO := fun _ L S H K _ => match S with
  | .inr (.inr x) :: S => (x = 0 → K tg L S H) ∧ (¬ x = 0 → K nx L S H)
  | _ => False
def ogoto (tg : Nat) : ZO := fun _ L S H K _ => K tg L S H
def otsw (lo hi : Int) (tgs : List Nat) (df : Nat) : ZO := fun _ L S H K _ => match S with
  | .inl x :: S => ((zw x < lo ∨ hi < zw x) → K df L S H) ∧ (∀ (i t : Nat), tgs[i]? = some t → zw x = lo + i → K t L S H)
  | _ => False
/-! the stack -/
def odup (nx : Nat) : ZO := fun _ L S H K _ => match S with
  | .inl x :: S => K nx L (zI x :: zI x :: S) H
  | .inr (.inr r) :: S => K nx L (zR r :: zR r :: S) H
  | _ => False
def opop (nx : Nat) : ZO := fun _ L S H K _ => match S with
  | .inl _ :: S => K nx L S H
  | .inr (.inr _) :: S => K nx L S H
  | _ => False
def odup_x1 (nx : Nat) : ZO := fun _ L S H K _ => match S with
  | .inr (.inl _) :: _ => False
  | _ :: .inr (.inl _) :: _ => False
  | v :: w :: S => K nx L (v :: w :: v :: S) H
  | _ => False
def odup2 (nx : Nat) : ZO := fun _ L S H K _ => match S with
  | .inr (.inl _) :: _ => False
  | _ :: .inr (.inl _) :: _ => False
  | v :: w :: S => K nx L (v :: w :: v :: w :: S) H
  | _ => False
/-! fields -/
def ogetI (f : Nat) (ts : List Nat) (nx : Nat) : ZO := fun _ L S H K _ => match S with
  | .inr (.inr r) :: S => hT H r ∈ ts ∧ K nx L (zI (hI H f r) :: S) H
  | _ => False
def ogetJ (f : Nat) (ts : List Nat) (nx : Nat) : ZO := fun _ L S H K _ => match S with
  | .inr (.inr r) :: S => hT H r ∈ ts ∧ K nx L (zJ (hI H f r) :: S) H
  | _ => False
def ogetR (f : Nat) (ts : List Nat) (nx : Nat) : ZO := fun _ L S H K _ => match S with
  | .inr (.inr r) :: S => hT H r ∈ ts ∧ K nx L (zR (hR H f r) :: S) H
  | _ => False
def oputI (f : Nat) (ts : List Nat) (nx : Nat) : ZO := fun _ L S H K _ => match S with
  | .inl v :: .inr (.inr r) :: S => hT H r ∈ ts ∧ K nx L S (uI H f r v)
  | _ => False
/-- a boolean field -/
def oputZ (f : Nat) (ts : List Nat) (nx : Nat) : ZO := fun _ L S H K _ => match S with
  | .inl v :: .inr (.inr r) :: S => hT H r ∈ ts ∧ (v = 0 ∨ v = 1) ∧ K nx L S (uI H f r v)
  | _ => False
/-- a byte field -/
def oputB (f : Nat) (ts : List Nat) (nx : Nat) : ZO := fun _ L S H K _ => match S with
  | .inl v :: .inr (.inr r) :: S => hT H r ∈ ts ∧ (-128 ≤ v ∧ v < 128) ∧ K nx L S (uI H f r v)
  | _ => False
def oputJ (f : Nat) (ts : List Nat) (nx : Nat) : ZO := fun _ L S H K _ => match S with
  | .inr (.inl v) :: .inr (.inr r) :: S => hT H r ∈ ts ∧ K nx L S (uI H f r v)
  | _ => False
def oputR (f : Nat) (ts : List Nat) (nx : Nat) : ZO := fun _ L S H K _ => match S with
  | .inr (.inr v) :: .inr (.inr r) :: S => hT H r ∈ ts ∧ K nx L S (uR H f r v)
  | _ => False
/-! making, arrays -/
def onew (t n nx : Nat) : ZO := fun _ L S H K _ => hN H < hE H 0 ∧ hS H + n ≤ hE H 1 ∧ K nx L (zR (hN H) :: S) (uO H t n)
def onewa (t nx : Nat) : ZO := fun _ L S H K _ => match S with
  | .inl n :: S => (0 ≤ n ∧ n ≤ 1000000) ∧ hN H < hE H 0 ∧ hS H + n.toNat ≤ hE H 1 ∧ K nx L (zR (hN H) :: S) (uY H t n.toNat)
  | _ => False
def olen (ts : List Nat) (nx : Nat) : ZO := fun _ L S H K _ => match S with
  | .inr (.inr r) :: S => hT H r ∈ ts ∧ K nx L (zI (hL H r) :: S) H
  | _ => False
def oald (ts : List Nat) (nx : Nat) : ZO := fun _ L S H K _ => match S with
  | .inl i :: .inr (.inr r) :: S => hT H r ∈ ts ∧ (0 ≤ i ∧ i < hL H r) ∧ K nx L (zI (hA H r i.toNat) :: S) H
  | _ => False
def oaldJ (ts : List Nat) (nx : Nat) : ZO := fun _ L S H K _ => match S with
  | .inl i :: .inr (.inr r) :: S => hT H r ∈ ts ∧ (0 ≤ i ∧ i < hL H r) ∧ K nx L (zJ (hA H r i.toNat) :: S) H
  | _ => False
def oaldQ (ts : List Nat) (nx : Nat) : ZO := fun _ L S H K _ => match S with
  | .inl i :: .inr (.inr r) :: S => hT H r ∈ ts ∧ (0 ≤ i ∧ i < hL H r) ∧ K nx L (zR (hQ H r i.toNat) :: S) H
  | _ => False
def oast (ts : List Nat) (nx : Nat) : ZO := fun _ L S H K _ => match S with
  | .inl v :: .inl i :: .inr (.inr r) :: S => hT H r ∈ ts ∧ (0 ≤ i ∧ i < hL H r) ∧ K nx L S (uA H r i.toNat v)
  | _ => False
/-- into an array of booleans -/
def oastZ (ts : List Nat) (nx : Nat) : ZO := fun _ L S H K _ => match S with
  | .inl v :: .inl i :: .inr (.inr r) :: S => hT H r ∈ ts ∧ (0 ≤ i ∧ i < hL H r) ∧ (v = 0 ∨ v = 1) ∧ K nx L S (uA H r i.toNat v)
  | _ => False
/-- into an array of bytes -/
def oastB (ts : List Nat) (nx : Nat) : ZO := fun _ L S H K _ => match S with
  | .inl v :: .inl i :: .inr (.inr r) :: S => hT H r ∈ ts ∧ (0 ≤ i ∧ i < hL H r) ∧ K nx L S (uA H r i.toNat (Int.bmod v 256))
  | _ => False
def oastJ (ts : List Nat) (nx : Nat) : ZO := fun _ L S H K _ => match S with
  | .inr (.inl v) :: .inl i :: .inr (.inr r) :: S => hT H r ∈ ts ∧ (0 ≤ i ∧ i < hL H r) ∧ K nx L S (uA H r i.toNat v)
  | _ => False
/-- into an array of references: vs the tags that fit -/
def oastQ (ts vs : List Nat) (nx : Nat) : ZO := fun _ L S H K _ => match S with
  | .inr (.inr v) :: .inl i :: .inr (.inr r) :: S => hT H r ∈ ts ∧ (0 ≤ i ∧ i < hL H r) ∧ (v = 0 ∨ hT H v ∈ vs) ∧ K nx L S (uQ H r i.toNat v)
  | _ => False
def ocast (ts : List Nat) (nx : Nat) : ZO := fun _ L S H K _ => match S with
  | .inr (.inr r) :: S => (r = 0 ∨ hT H r ∈ ts) ∧ K nx L (zR r :: S) H
  | _ => False
def oinst (ys ns : List Nat) (nx : Nat) : ZO := fun _ L S H K _ => match S with
  | .inr (.inr r) :: S => (r = 0 ∨ hT H r ∈ ys ∨ hT H r ∈ ns) ∧ (hT H r ∈ ys → K nx L (zI 1 :: S) H) ∧ (¬ hT H r ∈ ys → K nx L (zI 0 :: S) H)
  | _ => False
/-! calls -/
/-- the words on a stack -/
def zcw : ZS → Nat
  | [] => 0
  | .inl _ :: S => zcw S + 1
  | .inr (.inl _) :: S => zcw S + 2
  | .inr (.inr _) :: S => zcw S + 1
/-- Object.<init>, and any method that does nothing -/
def oskip (nx : Nat) : ZO := fun _ L S H K _ => match S with
  | .inr (.inr r) :: S => match Nat.ble S.length 8 with
    | true => hT H r ≠ 0 ∧ K nx L S H
    | false => False
  | _ => False
/-- a static method: n arguments -/
def ocall (m n nx : Nat) : ZO := fun C L S H K _ => match Nat.ble n S.length && Nat.ble (zcw (S.drop n)) 8 with
  | true => C m (S.take n).reverse H (fun r H => K nx L (r ++ S.drop n) H)
  | false => False
/-- a method of the receiver below n arguments, whose tag is in ts -/
def ocallv (ts : List Nat) (m n nx : Nat) : ZO := fun C L S H K _ => match S[n]? with
  | some (.inr (.inr r)) => match Nat.ble (zcw (S.drop (n + 1))) 8 with
    | true => hT H r ∈ ts ∧ C m (S.take (n + 1)).reverse H (fun r H => K nx L (r ++ S.drop (n + 1)) H)
    | false => False
  | _ => False
/-- a method by the receiver's tag -/
def ocallp (sel : List (Nat × Nat)) (n nx : Nat) : ZO := fun C L S H K _ => match S[n]? with
  | some (.inr (.inr r)) => match Nat.ble (zcw (S.drop (n + 1))) 8 with
    | true => ∃ m, (hT H r, m) ∈ sel ∧ C m (S.take (n + 1)).reverse H (fun r H => K nx L (r ++ S.drop (n + 1)) H)
    | false => False
  | _ => False
def oret0 : ZO := fun _ _ S H _ Q => S = [] ∧ Q [] H
def oretI : ZO := fun _ _ S H _ Q => match S with
  | [.inl v] => Q [zI v] H
  | _ => False
def oretJ : ZO := fun _ _ S H _ Q => match S with
  | [.inr (.inl v)] => Q [zJ v] H
  | _ => False
def oretR : ZO := fun _ _ S H _ Q => match S with
  | [.inr (.inr v)] => Q [zR v] H
  | _ => False
/-- a boolean -/
def oretZ : ZO := fun _ _ S H _ Q => match S with
  | [.inl v] => (v = 0 ∨ v = 1) ∧ Q [zI v] H
  | _ => False
/-- a byte -/
def oretB : ZO := fun _ _ S H _ Q => match S with
  | [.inl v] => (-128 ≤ v ∧ v < 128) ∧ Q [zI v] H
  | _ => False
/-- a char -/
def oretC : ZO := fun _ _ S H _ Q => match S with
  | [.inl v] => (0 ≤ v ∧ v < 65536) ∧ Q [zI v] H
  | _ => False
/-! what only some methods do -/
def olsw (ps : List (Int × Nat)) (df : Nat) : ZO := fun _ L S H K _ => match S with
  | .inl x :: S => (∀ q ∈ ps, zw x = q.1 → K q.2 L S H) ∧ ((∀ q ∈ ps, zw x ≠ q.1) → K df L S H)
  | _ => False
/-- n elements from src, sp on, into dst, dp on -/
def uC (H : ZH) (dst dp src sp n : Nat) : ZH := (H.1, H.2.1, fun s j => if s = dst ∧ dp ≤ j ∧ j < dp + n then H.2.2.1 src (sp + (j - dp)) else H.2.2.1 s j, fun s j => if s = dst ∧ dp ≤ j ∧ j < dp + n then H.2.2.2.1 src (sp + (j - dp)) else H.2.2.2.1 s j, H.2.2.2.2)
def zcps : List (Nat × Nat) := [(101, 101), (104, 104), (110, 110), (130, 110), (102, 102), (122, 102)]
def oacopy (nx : Nat) : ZO := fun _ L S H K _ => match S with
  | .inl n :: .inl dp :: .inr (.inr dst) :: .inl sp :: .inr (.inr src) :: S => match Nat.ble S.length 4 with
    | true => (hT H src, hT H dst) ∈ zcps ∧ (0 ≤ n ∧ 0 ≤ sp ∧ 0 ≤ dp ∧ sp + n ≤ hL H src ∧ dp + n ≤ hL H dst) ∧ K nx L S (uC H dst dp.toNat src sp.toNat n.toNat)
    | false => False
  | _ => False
/-- getClass of an array of objects -/
def ogetC (nx : Nat) : ZO := fun _ L S H K _ => match S with
  | .inr (.inr r) :: S => match Nat.ble S.length 4 with
    | true => (hT H r = 110 ∨ hT H r = 130) ∧ K nx L (zR (hE H 30) :: S) H
    | false => False
  | _ => False
/-- a lambda's object: the captured values lie on the stack -/
def zsets (H : ZH) (r : Nat) : List Nat → ZS → ZH
  | f :: fs, .inl x :: vs => zsets (uI H f r x) r fs vs
  | f :: fs, .inr (.inr q) :: vs => zsets (uR H f r q) r fs vs
  | _, _ => H
def olam (t n : Nat) (fs : List Nat) (nx : Nat) : ZO := fun _ L S H K _ => match Nat.ble n S.length && Nat.ble S.length 12 with
  | true => hN H < hE H 0 ∧ hS H + n ≤ hE H 1 ∧ K nx L (zR (hN H) :: S.drop n) (zsets (uO H t n) (hN H) fs (S.take n).reverse)
  | false => False
/-- the captured values of the object r: fields, 0: a number, else a reference -/
def zcaps (H : ZH) (r : Nat) : List (Nat × Nat) → ZS
  | [] => []
  | (f, 0) :: fs => zI (hI H f r) :: zcaps H r fs
  | (f, _ + 1) :: fs => zR (hR H f r) :: zcaps H r fs
/-- a lambda's call: by the object's tag the method and what it captured -/
def ocalll (sel : List (Nat × Nat × List (Nat × Nat))) (n nx : Nat) : ZO := fun C L S H K _ => match S[n]? with
  | some (.inr (.inr r)) => match Nat.ble (zcw (S.drop (n + 1))) 8 with
    | true => ∃ q ∈ sel, hT H r = q.1 ∧ C q.2.1 (zcaps H r q.2.2 ++ (S.take n).reverse) H (fun r H => K nx L (r ++ S.drop (n + 1)) H)
    | false => False
  | _ => False
/-- a rows of ints, b in each: the outer array first, then its rows -/
def uM (H : ZH) (a b : Nat) : ZH := (H.1, H.2.1, fun s j => if hN H ≤ s ∧ s ≤ hN H + a then 0 else H.2.2.1 s j, fun s j => if s = hN H then (if j < a then hN H + 1 + j else 0) else if hN H < s ∧ s ≤ hN H + a then 0 else H.2.2.2.1 s j, fun s => if s = hN H then 114 else if hN H < s ∧ s ≤ hN H + a then 101 else H.2.2.2.2.1 s, fun s => if s = hN H then a else if hN H < s ∧ s ≤ hN H + a then b else H.2.2.2.2.2.1 s, hN H + 1 + a, hS H + a + a * b, H.2.2.2.2.2.2.2.2)
def omana (nx : Nat) : ZO := fun _ L S H K _ => match S with
  | .inl b :: .inl a :: S => (0 < a ∧ a ≤ 1000 ∧ 0 ≤ b ∧ b ≤ 1000) ∧ hN H + a.toNat < hE H 0 ∧ hS H + a.toNat + a.toNat * b.toNat ≤ hE H 1 ∧ K nx L (zR (hN H) :: S) (uM H a.toNat b.toNat)
  | _ => False
/-- a call that may throw: the answer is then the thrown object, twice; h: where it is caught -/
def ocallvx (ts : List Nat) (m n nx : Nat) (h : Option Nat) : ZO := fun C L S H K Q => match S[n]? with
  | some (.inr (.inr r)) => match Nat.ble (zcw (S.drop (n + 1))) 8 with
    | true => hT H r ∈ ts ∧ C m (S.take (n + 1)).reverse H (fun r H => match r with
      | [_, y] => match h with
        | some hp => K hp L [y] H
        | none => Q r H
      | _ => K nx L (r ++ S.drop (n + 1)) H)
    | false => False
  | _ => False
def othrow : ZO := fun _ _ S H _ Q => match S with
  | .inr (.inr r) :: _ => hT H r = 12 ∧ Q [zR r, zR r] H
  | _ => False
/-! methods by number: tb m gives the locals' number and the table -/
def zfl1 (v : ZV) : ZL := match v with
  | .inl x => [some (zI x)]
  | .inr (.inl x) => [some (zJ x), none]
  | .inr (.inr r) => [some (zR r)]
def zflat : ZS → ZL
  | [] => []
  | v :: args => zfl1 v ++ zflat args
def zent (nL : Nat) (args : ZS) : ZL := zflat args ++ List.replicate (nL - (zflat args).length) none
def zcall (tb : Nat → Nat × ZT) : Nat → ZC
  | 0 => fun _ _ _ _ => False
  | d + 1 => fun m args H Q => (zflat args).length ≤ (tb m).1 ∧ zwp (zcall tb d) (tb m).2 Q 0 (zent (tb m).1 args) [] H
