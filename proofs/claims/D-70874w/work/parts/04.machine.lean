/-! THE ABSTRACT MACHINE: a store by places, frames with .ref PLACE (and .retAddr n for the n-th object from outside: 0 the script) -/
abbrev Sh : Type := Nat ⊕ (Nat × Nat)
/-- shapes, references, the next place, the script and its length -/
abbrev En : Type := (Nat → Option Sh) × (Nat → Nat → Value) × Nat × (Nat → Int32) × Nat
abbrev Xs : Type := En × (Nat → Nat → Int32) × (Nat → Nat → Int64)
abbrev Lo : Type := List (Option Value)
abbrev Po : Type := Outcome → Xs → Prop
abbrev RnT : Type := Nat → Nat → Lo → List Value → Nat × Nat → Xs → Po → Prop
def up2 {α : Type} (f : Nat → Nat → α) (k j : Nat) (v : α) : Nat → Nat → α := fun q i => if q = k then (if i = j then v else f q i) else f q i
def sI (X : Xs) (I : Nat → Nat → Int32) : Xs := (X.1, I, X.2.2)
def sG (X : Xs) (G : Nat → Nat → Int64) : Xs := (X.1, X.2.1, G)
def sR (X : Xs) (R : Nat → Nat → Value) : Xs := ((X.1.1, R, X.1.2.2), X.2)
/-- a new cell at the next place -/
def sN (X : Xs) (h : Sh) : Xs := ((va_up X.1.1 X.1.2.2.1 (some h), va_up X.1.2.1 X.1.2.2.1 (fun _ => .null), X.1.2.2.1 + 1, X.1.2.2.2), va_up X.2.1 X.1.2.2.1 (fun _ => 0), va_up X.2.2 X.1.2.2.1 (fun _ => 0))
def fv (X : Xs) (ci k j : Nat) : Value := match fk ci j with
  | 0 => X.1.2.1 k j
  | _ => .int (X.2.1 k j)
/-- a store at a kills a long that stands ahead of it -/
def kl (L : Lo) (a : Nat) : Lo := match a with
  | 0 => L
  | j + 1 => match L.getD j none with
    | some (.long _) => L.set j none
    | some (.double _) => L.set j none
    | _ => L
def stL (L : Lo) (a : Nat) (w : Value) : Option Lo := if decide (a < L.length) then some ((kl L a).set a (some w)) else none
def ldI (L : Lo) (a : Nat) (st : List Value) : Option (Lo × List Value) := match L.getD a none with
  | some (.int x) => some (L, .int x :: st)
  | _ => none
def ldL (L : Lo) (a : Nat) (st : List Value) : Option (Lo × List Value) := match L.getD a none with
  | some (.long x) => some (L, .long x :: st)
  | _ => none
def ldA (L : Lo) (a : Nat) (st : List Value) : Option (Lo × List Value) := match L.getD a none with
  | some (.ref x) => some (L, .ref x :: st)
  | some .null => some (L, .null :: st)
  | some (.retAddr x) => some (L, .retAddr x :: st)
  | _ => none
def siI (L : Lo) (a : Nat) (st : List Value) : Option (Lo × List Value) := match st with
  | .int x :: r => (stL L a (.int x)).map fun l => (l, r)
  | _ => none
def siA (L : Lo) (a : Nat) (st : List Value) : Option (Lo × List Value) := match st with
  | .ref x :: r => (stL L a (.ref x)).map fun l => (l, r)
  | .null :: r => (stL L a .null).map fun l => (l, r)
  | .retAddr x :: r => (stL L a (.retAddr x)).map fun l => (l, r)
  | _ => none
def inc (L : Lo) (a : Nat) (v : Value) (st : List Value) : Option (Lo × List Value) := match v with
  | .int c => match L.getD a none with
    | some (.int x) => (stL L a (.int (x + c))).map fun l => (l, st)
    | _ => none
  | _ => none
def bI (f : Int32 → Int32 → Int32) (L : Lo) (st : List Value) : Option (Lo × List Value) := match st with
  | .int y :: .int x :: r => some (L, .int (f x y) :: r)
  | _ => none
def bL (f : Int64 → Int64 → Int64) (L : Lo) (st : List Value) : Option (Lo × List Value) := match st with
  | .long y :: .long x :: r => some (L, .long (f x y) :: r)
  | _ => none
def uI (f : Int32 → Value) (L : Lo) (st : List Value) : Option (Lo × List Value) := match st with
  | .int x :: r => some (L, f x :: r)
  | _ => none
def cat1 : Value → Bool
  | .long _ => false
  | .double _ => false
  | _ => true
/-- instructions on locals and stack alone -/
def pst (ins : Instr) (a : Nat) (v : Value) (L : Lo) (st : List Value) : Option (Lo × List Value) := match ins with
  | .iconst _ => some (L, v :: st)
  | .bipush _ => some (L, v :: st)
  | .sipush _ => some (L, v :: st)
  | .lconst _ => some (L, v :: st)
  | .ldc _ => some (L, v :: st)
  | .ldc_w _ => some (L, v :: st)
  | .ldc2_w _ => some (L, v :: st)
  | .aconst_null => some (L, .null :: st)
  | .iload_n _ => ldI L a st
  | .iload _ => ldI L a st
  | .lload_n _ => ldL L a st
  | .lload _ => ldL L a st
  | .aload_n _ => ldA L a st
  | .aload _ => ldA L a st
  | .istore_n _ => siI L a st
  | .istore _ => siI L a st
  | .astore_n _ => siA L a st
  | .astore _ => siA L a st
  | .iinc _ _ => inc L a v st
  | .iadd => bI (fun x y => x + y) L st
  | .isub => bI (fun x y => x - y) L st
  | .imul => bI (fun x y => x * y) L st
  | .iand => bI (fun x y => x &&& y) L st
  | .ior => bI (fun x y => x ||| y) L st
  | .ixor => bI (fun x y => x ^^^ y) L st
  | .ishl => bI (fun x y => x <<< (y &&& 31)) L st
  | .ishr => bI (fun x y => x >>> (y &&& 31)) L st
  | .iushr => bI (fun x y => (x.toUInt32 >>> (y.toUInt32 &&& Int32.toUInt32 31)).toInt32) L st
  | .ladd => bL (fun x y => x + y) L st
  | .lmul => bL (fun x y => x * y) L st
  | .land => bL (fun x y => x &&& y) L st
  | .lor => bL (fun x y => x ||| y) L st
  | .lshl => match st with
    | .int y :: .long x :: r => some (L, .long (x <<< (y.toInt64 &&& 63)) :: r)
    | _ => none
  | .lcmp => match st with
    | .long y :: .long x :: r => some (L, .int (lg_cmp x y) :: r)
    | _ => none
  | .i2l => uI (fun x => .long x.toInt64) L st
  | .i2b => uI (fun x => .int x.toInt8.toInt32) L st
  | .i2s => uI (fun x => .int x.toInt16.toInt32) L st
  | .i2c => uI (fun x => .int (x.toUInt32 % 65536).toInt32) L st
  | .l2i => match st with
    | .long x :: r => some (L, .int x.toInt32 :: r)
    | _ => none
  | .dup => match st with
    | w :: r => if cat1 w then some (L, w :: w :: r) else none
    | _ => none
  | .dup2 => match st with
    | w :: z :: r => if cat1 w && cat1 z then some (L, w :: z :: w :: z :: r) else none
    | _ => none
  | .pop => match st with
    | w :: r => if cat1 w then some (L, r) else none
    | _ => none
  | _ => none
/-- a branch: its condition, whether it goes on in line when that holds, the rest of the stack -/
def cnd (ins : Instr) (st : List Value) : Option (Prop × Bool × List Value) := match ins with
  | .ifCond c _ => match st with
    | .int x :: r => match c with
      | .eq => some (x = 0, false, r)
      | .ne => some (x = 0, true, r)
      | .lt => some (x < 0, false, r)
      | .ge => some (x < 0, true, r)
      | .gt => some (0 < x, false, r)
      | .le => some (0 < x, true, r)
    | _ => none
  | .if_icmp c _ => match st with
    | .int y :: .int x :: r => match c with
      | .eq => some (x = y, false, r)
      | .ne => some (x = y, true, r)
      | .lt => some (x < y, false, r)
      | .ge => some (x < y, true, r)
      | .gt => some (y < x, false, r)
      | .le => some (y < x, true, r)
    | _ => none
  | _ => none
def isRf : Value → Bool
  | .null => true
  | .ref _ => true
  | .retAddr _ => true
  | _ => false
def sl : List Value → Lo
  | [] => []
  | v :: r => if cat1 v then some v :: sl r else some v :: none :: sl r
/-- a callee's locals at its entry -/
def entL (n : Nat) (vs : List Value) : Lo := sl vs ++ List.replicate (n - (sl vs).length) none
def wsum (st : List Value) : Nat := (st.map fun v => if cat1 v then 1 else 2).sum
/-- handlers by class numbers: from, to, handler, classes -/
def mcat (y : Nat) : List (Nat × Nat × Nat × List Nat) := match (mnam y).name with
  | "town" => [(0, 4, 7, [7])]
  | "sheet" => [(16, 60, 63, [10])]
  | "item" => [(10, 23, 26, [11]), (10, 23, 31, [12]), (10, 23, 36, [13])]
  | "copy" => [(18, 44, 47, [11]), (18, 44, 52, [14]), (18, 44, 57, [13])]
  | _ => []
def mhan (y : Nat) : List (Nat × Nat × Nat × List Nat) := if (mnam y).cls = "LateJudge" then mcat y else []
def hfind (y pc ci : Nat) : Option Nat := ((mhan y).find? fun q => decide (q.1 ≤ pc) && decide (pc < q.2.1) && q.2.2.2.contains ci).map fun q => q.2.2.1
/-- an exception (the object at place e) passes this frame -/
def thrF (P : RnT) (y pc : Nat) (L : Lo) (u : Nat × Nat) (X : Xs) (Q : Po) (e : Nat) : Prop := ∃ ci, X.1.1 e = some (.inl ci) ∧ match hfind y pc ci with
  | some h => P y h L [.ref e] u X Q
  | none => mhan y = [] ∧ Q (.threw e) X
/-- what the machine's own exception may cost in cells, slots -/
def exC : Nat := 20
def exS : Nat := 3500
def raiF (P : RnT) (y pc : Nat) (L : Lo) (u : Nat × Nat) (X : Xs) (Q : Po) (r : List Value) (ci : Nat) : Prop := (u.1 + exC ≤ mmc y ∧ u.2 + exS ≤ mms y ∧ wsum r ≤ 8) ∧ thrF P y pc L (u.1 + exC, u.2 + exS) (sN X (.inl ci)) Q X.1.2.2.1
/-- the methods that may throw -/
def mthr (y : Nat) : Bool := ([14, 15, 18, 19, 22, 23, 24, 93] : List Nat).contains y
def conF (P : RnT) (y pc a : Nat) (L : Lo) (rest : List Value) (u : Nat × Nat) (X : Xs) (Q : Po) (o : Outcome) : Prop := match o with
  | .returned none => P y (pc + 3) L rest u X Q
  | .returned (some v) => P y (pc + 3) L (v :: rest) u X Q
  | .threw e => mthr a = true ∧ thrF P y pc L u X Q e
def calF (P : RnT) (y pc a : Nat) (args rest : List Value) (L : Lo) (u : Nat × Nat) (X : Xs) (Q : Po) : Prop :=
  ∃ Q' : Po, P a 0 (entL (mloc a) args) [] (0, 0) X Q' ∧ (mdep a < mdep y ∧ mlcs a + 60 ≤ mlcs y ∧ u.1 + mmc a ≤ mmc y ∧ u.2 + mms a ≤ mms y ∧ wsum rest ≤ 8 ∧ (sl args).length ≤ mloc a) ∧ ∀ o X', Q' o X' → conF P y pc a L rest (u.1 + mmc a, u.2 + mms a) X' Q o
def nrw (t : Nat) (x : Int32) : Int32 := match t with
  | 2 => vp_nar .char x
  | 3 => vp_nar .byte x
  | 4 => vp_nar .short x
  | _ => x
/-- which classes an array of references may hold -/
def okel (t ci : Nat) : Bool := match t with
  | 5 => ci == 6
  | 6 => decide (1 ≤ ci) && decide (ci ≤ 5)
  | 7 => ci == 8
  | _ => false
/-- the elements of a small array fit its type -/
def fitA (t : Nat) (f : Nat → Int32) (sp n : Nat) : Prop := ∀ i, i < n → fits (aty t) (.int (f (sp + i))) = true
def stepF (P : RnT) (y pc : Nat) (L : Lo) (st : List Value) (u : Nat × Nat) (X : Xs) (Q : Po) : Prop := match opAt y pc with
  | none => False
  | some (tag, len, ins, a, b, v, ts) => match tag with
    | 0 => match pst ins a v L st with
      | some (L', st') => P y (pc + len) L' st' u X Q
      | none => False
    | 1 => match cnd ins st with
      | some (c, neg, r) => (c → P y (bif neg then pc + len else a) L r u X Q) ∧ (¬ c → P y (bif neg then a else pc + len) L r u X Q)
      | none => False
    | 2 => P y a L st u X Q
    | 3 => match st with
      | .ref k :: r => X.1.1 k = some (.inl a) ∧ P y (pc + len) L (fv X a k b :: r) u X Q
      | _ => False
    | 4 => match st with
      | w :: .ref k :: r => X.1.1 k = some (.inl a) ∧ match fk a b with
        | 0 => isRf w = true ∧ P y (pc + len) L r u (sR X (up2 X.1.2.1 k b w)) Q
        | 1 => match w with
          | .int x => P y (pc + len) L r u (sI X (up2 X.2.1 k b x)) Q
          | _ => False
        | 2 => match w with
          | .int x => (x = 0 ∨ x = 1) ∧ P y (pc + len) L r u (sI X (up2 X.2.1 k b x)) Q
          | _ => False
        | _ => False
      | _ => False
    | 5 => match st with
      | .int i :: .ref k :: r => match a with
        | 1 => ∃ n, X.1.1 k = some (.inr (1, n)) ∧ vp_in i n ∧ P y (pc + len) L (.long (X.2.2 k i.toNatClampNeg) :: r) u X Q
        | 5 => ∃ t n, X.1.1 k = some (.inr (t, n)) ∧ 5 ≤ t ∧ vp_in i n ∧ P y (pc + len) L (X.1.2.1 k i.toNatClampNeg :: r) u X Q
        | _ => ∃ n, X.1.1 k = some (.inr (a, n)) ∧ vp_in i n ∧ P y (pc + len) L (.int (X.2.1 k i.toNatClampNeg) :: r) u X Q
      | .int i :: .retAddr 0 :: r => a = 0 ∧ vp_in i X.1.2.2.2.2 ∧ P y (pc + len) L (.int (X.1.2.2.2.1 i.toNatClampNeg) :: r) u X Q
      | _ => False
    | 6 => match st with
      | .int x :: .int i :: .ref k :: r => ∃ n, X.1.1 k = some (.inr (a, n)) ∧ a ≠ 1 ∧ a < 5 ∧ ((vp_in i n ∧ P y (pc + len) L r u (sI X (up2 X.2.1 k i.toNatClampNeg (nrw a x))) Q) ∨ (¬ vp_in i n ∧ n ≤ 1000 ∧ raiF P y pc L u X Q r 13))
      | .long x :: .int i :: .ref k :: r => a = 1 ∧ ∃ n, X.1.1 k = some (.inr (1, n)) ∧ ((vp_in i n ∧ P y (pc + len) L r u (sG X (up2 X.2.2 k i.toNatClampNeg x)) Q) ∨ (¬ vp_in i n ∧ n ≤ 1000 ∧ raiF P y pc L u X Q r 13))
      | .ref q :: .int i :: .ref k :: r => a = 5 ∧ ∃ t n ci, X.1.1 k = some (.inr (t, n)) ∧ X.1.1 q = some (.inl ci) ∧ okel t ci = true ∧ vp_in i n ∧ P y (pc + len) L r u (sR X (up2 X.1.2.1 k i.toNatClampNeg (.ref q))) Q
      | .int _ :: .int _ :: .null :: r => a ≠ 1 ∧ a < 5 ∧ raiF P y pc L u X Q r 11
      | .long _ :: .int _ :: .null :: r => a = 1 ∧ raiF P y pc L u X Q r 11
      | _ => False
    | 7 => match st with
      | .ref k :: r => ∃ t n, X.1.1 k = some (.inr (t, n)) ∧ P y (pc + len) L (.int (Int32.ofNat n) :: r) u X Q
      | .retAddr 0 :: r => P y (pc + len) L (.int (Int32.ofNat X.1.2.2.2.2) :: r) u X Q
      | _ => False
    | 8 => b ≤ st.length ∧ (match ts with
        | [] => True
        | [ci] => ∃ k, (st.take b).getLast? = some (.ref k) ∧ X.1.1 k = some (.inl ci)
        | _ => ∃ k ci, (st.take b).getLast? = some (.ref k) ∧ X.1.1 k = some (.inl ci) ∧ ci < 15) ∧ calF P y pc a (st.take b).reverse (st.drop b) L u X Q
    | 9 => b ≤ st.length ∧ ∃ k ci, (st.take b).getLast? = some (.ref k) ∧ X.1.1 k = some (.inl ci) ∧ 1 ≤ ci ∧ ci ≤ 5 ∧ calF P y pc (ts.getD ci 0) (st.take b).reverse (st.drop b) L u X Q
    | 10 => match ins with
      | .return_ => st = [] ∧ Q (.returned none) X
      | .ireturn => ∃ x, st = [.int x] ∧ ((mret y = some .boolean) → x = 0 ∨ x = 1) ∧ Q (.returned (some (.int x))) X
      | .lreturn => ∃ x, st = [.long x] ∧ Q (.returned (some (.long x))) X
      | .areturn => ∃ k, st = [.ref k] ∧ Q (.returned (some (.ref k))) X
      | _ => False
    | 11 => match st with
      | .int n :: .int dp :: .ref kd :: .int sp :: .ref ks :: r => wsum r ≤ 8 ∧ ((∃ t n0 n1, X.1.1 ks = some (.inr (t, n0)) ∧ X.1.1 kd = some (.inr (t, n1)) ∧ ((¬ sp < 0 ∧ ¬ dp < 0 ∧ ¬ n < 0 ∧ sp.toNatClampNeg + n.toNatClampNeg ≤ n0 ∧ dp.toNatClampNeg + n.toNatClampNeg ≤ n1 ∧ match t with
          | 1 => P y (pc + 3) L r u (sG X (va_up X.2.2 kd (va_cpy (X.2.2 ks) (X.2.2 kd) sp.toNatClampNeg dp.toNatClampNeg n.toNatClampNeg))) Q
          | 5 => (∀ i, i < n.toNatClampNeg → ∃ q, X.1.2.1 ks (sp.toNatClampNeg + i) = .ref q ∧ X.1.1 q = some (.inl 6)) ∧ P y (pc + 3) L r u (sR X (va_up X.1.2.1 kd (va_cpy (X.1.2.1 ks) (X.1.2.1 kd) sp.toNatClampNeg dp.toNatClampNeg n.toNatClampNeg))) Q
          | _ => t < 5 ∧ fitA t (X.2.1 ks) sp.toNatClampNeg n.toNatClampNeg ∧ P y (pc + 3) L r u (sI X (va_up X.2.1 kd (va_cpy (X.2.1 ks) (X.2.1 kd) sp.toNatClampNeg dp.toNatClampNeg n.toNatClampNeg))) Q) ∨
          (t < 5 ∧ (sp < 0 ∨ dp < 0 ∨ n < 0 ∨ n0 < sp.toNatClampNeg + n.toNatClampNeg ∨ n1 < dp.toNatClampNeg + n.toNatClampNeg) ∧ (n0 ≤ 1000 ∧ n1 ≤ 1000) ∧ raiF P y pc L u X Q r 13))) ∨
        (∃ t0 n0 t1 n1, X.1.1 ks = some (.inr (t0, n0)) ∧ X.1.1 kd = some (.inr (t1, n1)) ∧ t0 < 5 ∧ t1 < 5 ∧ t0 ≠ t1 ∧ raiF P y pc L u X Q r 14))
      | .int _ :: .int _ :: wd :: .int _ :: ws :: r => isRf wd = true ∧ isRf ws = true ∧ (wd = .null ∨ ws = .null) ∧ raiF P y pc L u X Q r 11
      | _ => False
    | 12 => match st with
      | .ref _ :: r => wsum r ≤ 8 ∧ P y (pc + 3) L r u X Q
      | _ => False
    | 13 => (u.1 + 1 ≤ mmc y ∧ u.2 + isz a ≤ mms y) ∧ P y (pc + 3) L (.ref X.1.2.2.1 :: st) (u.1 + 1, u.2 + isz a) (sN X (.inl a)) Q
    | 14 => match st with
      | .int n :: r => (¬ n < 0 ∧ n.toNatClampNeg ≤ 1000 ∧ (u.1 + 1 ≤ mmc y ∧ u.2 + n.toNatClampNeg ≤ mms y) ∧ P y (pc + len) L (.ref X.1.2.2.1 :: r) (u.1 + 1, u.2 + n.toNatClampNeg) (sN X (.inr (a, n.toNatClampNeg))) Q) ∨ (n < 0 ∧ raiF P y pc L u X Q r 10)
      | _ => False
    | 15 => match st with
      | .int n :: r => ¬ n < 0 ∧ n.toNatClampNeg ≤ 1000 ∧ (u.1 + 1 ≤ mmc y ∧ u.2 + n.toNatClampNeg ≤ mms y) ∧ P y (pc + len) L (.ref X.1.2.2.1 :: r) (u.1 + 1, u.2 + n.toNatClampNeg) (sN X (.inr (a, n.toNatClampNeg))) Q
      | _ => False
    | 16 => match ins with
      | .checkcast _ => match st with
        | .null :: r => P y (pc + len) L (.null :: r) u X Q
        | .ref k :: r => ∃ t n, X.1.1 k = some (.inr (t, n)) ∧ t < 5 ∧ ((t = a ∧ P y (pc + len) L (.ref k :: r) u X Q) ∨ (t ≠ a ∧ raiF P y pc L u X Q r 12))
        | _ => False
      | .instanceof _ => match st with
        | .null :: r => P y (pc + len) L (.int 0 :: r) u X Q
        | .ref k :: r => ∃ t n, X.1.1 k = some (.inr (t, n)) ∧ t < 5 ∧ P y (pc + len) L (.int (if t = a then 1 else 0) :: r) u X Q
        | _ => False
      | _ => False
    | 17 => match st with
      | .int x :: r => (∀ i, i < ts.length → x = nI i → P y (ts.getD i 0) L r u X Q) ∧ ((x < 0 ∨ nI ts.length ≤ x) → P y a L r u X Q)
      | _ => False
    | 18 => match st with
      | .ref k :: _ => thrF P y pc L u X Q k
      | _ => False
    | 20 => match st with
      | .int z :: .int x :: r => ¬ z = 0 ∧ match ins with
        | .idiv => P y (pc + len) L (.int (x / z) :: r) u X Q
        | .irem => P y (pc + len) L (.int (x - x / z * z) :: r) u X Q
        | _ => False
      | _ => False
    | 21 => P y (pc + len) L (v :: st) u X Q
    | 22 => match ins with
      | .ifnull _ => match st with
        | .null :: r => P y a L r u X Q
        | .ref _ :: r => P y (pc + len) L r u X Q
        | _ => False
      | .ifnonnull _ => match st with
        | .null :: r => P y (pc + len) L r u X Q
        | .ref _ :: r => P y a L r u X Q
        | _ => False
      | _ => False
    | _ => False
/-- from this frame and store the method comes to its end, and Q holds of outcome and store there: the least such -/
def Rn : RnT := fun y pc L st u X Q => ∀ P : RnT, (∀ y pc L st u X Q, stepF P y pc L st u X Q → P y pc L st u X Q) → P y pc L st u X Q
