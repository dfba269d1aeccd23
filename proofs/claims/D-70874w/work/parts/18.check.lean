/-! the checks of every op of every method -/
def rtB (ins : Instr) (y : Nat) : Bool := match ins with
  | .return_ => decide (mret y = none)
  | .ireturn => decide (mret y = some .int) || decide (mret y = some .boolean)
  | .lreturn => decide (mret y = some .long)
  | .areturn => match mret y with
    | some (.object _) => true
    | _ => false
  | _ => false
def swB (ins : Instr) (pc a : Nat) (ts : List Nat) : Bool := match ins with
  | .tableswitch d lo hi offs => decide (lo = 0) && decide (hi = (ts.length : Int) - 1) && decide ((pc : Int) + d = (a : Int)) && decide (offs.toList.map (fun o => (pc : Int) + o) = ts.map fun (t : Nat) => (t : Int))
  | _ => false
/-- the call's kind, by the instruction -/
def caB (y : Nat) (ins : Instr) (a b : Nat) (ts : List Nat) : Bool := decide (a < 170) && match ins with
  | .invokevirtual i => (clkB (mnam y).cls i a 0 && decide (mhnd a = []) || clkB (mnam y).cls i a 1 && plainName (mnam a).cls) && decide (b = npar a + 1) && (match ts with | [ci] => decide (ci < 15) && decide (cRn ci = (mnam a).cls) | _ => false)
  | .invokestatic i => clkB (mnam y).cls i a 2 && decide (mhnd a = []) && decide (b = npar a) && decide (ts = [])
  | .invokespecial i => (clkB (mnam y).cls i a 3 || clkB (mnam y).cls i a 4 || clkB (mnam y).cls i a 5) && decide (mhnd a = []) && decide (b = npar a + 1) && (match ts with | [_, _] => true | _ => false)
  | _ => false
def c1B (ins : Instr) (len pc a : Nat) : Bool := decide (len = 3) && brB ins pc a
def c2B (ins : Instr) (len pc a : Nat) : Bool := match ins with
  | .goto off => decide (len = 3) && decide ((pc : Int) + off = (a : Int))
  | _ => false
def c3B (y : Nat) (ins : Instr) (len a b : Nat) : Bool := match ins with
  | .getfield i => decide (len = 3) && flkB (mnam y).cls i a b
  | _ => false
def c4B (y : Nat) (ins : Instr) (len a b : Nat) : Bool := match ins with
  | .putfield i => decide (len = 3) && flkB (mnam y).cls i a b && finB y i a b
  | _ => false
def c5B (ins : Instr) (len a : Nat) : Bool := decide (len = 1) && ldB ins a
def c6B (ins : Instr) (len a : Nat) : Bool := decide (len = 1) && sdB ins a
def c7B (ins : Instr) (len : Nat) : Bool := decide (len = 1) && decide (ins = .arraylength)
def c8B (y : Nat) (ins : Instr) (len a b : Nat) (ts : List Nat) : Bool := decide (len = 3) && caB y ins a b ts
def c9B (y : Nat) (ins : Instr) (len b : Nat) (ts : List Nat) : Bool := decide (len = 3) && decide (ins = .invokevirtual 240) && decide ((mnam y).cls = "LateJudge") && decide (b = 3) && decide (ts = [0, 70, 72, 74, 76, 78])
def c10B (y : Nat) (ins : Instr) (len : Nat) : Bool := decide (len = 1) && rtB ins y
def c11B (y : Nat) (ins : Instr) (len : Nat) : Bool := match ins with
  | .invokestatic i => decide (len = 3) && lnkB arcT (mnam y).cls i
  | _ => false
def c12B (y : Nat) (ins : Instr) (len : Nat) : Bool := match ins with
  | .invokespecial i => decide (len = 3) && lnkB obiT (mnam y).cls i
  | _ => false
def c13B (y : Nat) (ins : Instr) (len a : Nat) : Bool := match ins with
  | .new i => decide (len = 3) && decide (a < 10) && clsB (mnam y).cls i (cRn a)
  | _ => false
def c14B (ins : Instr) (len a : Nat) : Bool := match ins with
  | .newarray t => decide (len = 2) && decide (a < 5) && decide (newarray.typeOf t = aty a)
  | _ => false
def c15B (y : Nat) (ins : Instr) (len a : Nat) : Bool := match ins with
  | .anewarray i => decide (len = 3) && decide (5 ≤ a) && decide (a < 8) && clsB (mnam y).cls i (aCn a)
  | _ => false
def c16B (y : Nat) (ins : Instr) (len a : Nat) : Bool := match ins with
  | .checkcast i => decide (len = 3) && decide (a < 5) && decide (a ≠ 2) && clsB (mnam y).cls i (aNm a)
  | .instanceof i => decide (len = 3) && decide (a < 5) && decide (a ≠ 2) && clsB (mnam y).cls i (aNm a)
  | _ => false
def c18B (ins : Instr) (len : Nat) : Bool := decide (len = 1) && decide (ins = .athrow)
def c20B (ins : Instr) (len : Nat) : Bool := decide (len = 1) && (decide (ins = .idiv) || decide (ins = .irem))
def c21B (y : Nat) (ins : Instr) (len : Nat) (v : Value) : Bool := match ins with
  | .getstatic i => decide (len = 3) && decide ((mnam y).cls = "java/lang/Throwable") && (decide (i = 13) && decide (v = .retAddr 1) || decide (i = 20) && decide (v = .retAddr 2))
  | _ => false
def c22B (ins : Instr) (len pc a : Nat) : Bool := match ins with
  | .ifnull off => decide (len = 3) && decide ((pc : Int) + off = (a : Int))
  | .ifnonnull off => decide (len = 3) && decide ((pc : Int) + off = (a : Int))
  | _ => false
def chk (y pc : Nat) (o : Op) : Bool := match o with
  | (tag, len, ins, a, b, v, ts) => match tag with
    | 0 => pokB (mnam y).cls ins len a v
    | 1 => c1B ins len pc a
    | 2 => c2B ins len pc a
    | 3 => c3B y ins len a b
    | 4 => c4B y ins len a b
    | 5 => c5B ins len a
    | 6 => c6B ins len a
    | 7 => c7B ins len
    | 8 => c8B y ins len a b ts
    | 9 => c9B y ins len b ts
    | 10 => c10B y ins len
    | 11 => c11B y ins len
    | 12 => c12B y ins len
    | 13 => c13B y ins len a
    | 14 => c14B ins len a
    | 15 => c15B y ins len a
    | 16 => c16B y ins len a
    | 17 => swB ins pc a ts
    | 18 => c18B ins len
    | 20 => c20B ins len
    | 21 => c21B y ins len v
    | 22 => c22B ins len pc a
    | 99 => true
    | _ => false
def chkA (y : Nat) : Bool := (opsOf y).all fun q => chk y q.1 q.2 && decide (decode (mcod y) q.1 = .ok (q.2.2.2.1, q.2.2.1))
