/-! ===== the pure machine's instructions ===== -/
/-- an int by its number -/
def iI (z : Int) : Int32 := Int32.ofInt z
def t_up (h : tAH) (a : Nat) (e : tEnt) : tAH := fun q => if q = a then some e else h q
theorem t_up_s {h : tAH} {a : Nat} {e : tEnt} : t_up h a e a = some e := if_pos rfl
theorem t_up_n {h : tAH} {a q : Nat} {e : tEnt} (hq : q ≠ a) : t_up h a e q = h q := if_neg hq
/-- a new cell -/
def t_al (hs : tHS) (e : tEnt) (n : Nat) : tHS := (t_up hs.1 hs.2.1 e, hs.2.1 + 1, hs.2.2 + n)
def t_in (i : Int32) (n : Nat) : Bool := decide (iI 0 ≤ i) && decide (i.toNatClampNeg < n)
/-- array kinds: 0 int, 1 boolean, 2 byte, 3 long, 4.. references -/
def t_nar (kd : Nat) (x : Int32) : Int32 := if kd = 1 then vp_nar .boolean x else if kd = 2 then vp_nar .byte x else x
def t_okR (c : Nat) (x : Int32) : Bool := if c = 0 then true else if c = 1 then (x == iI 0 || x == iI 1) else if c = 2 then x.toInt8.toInt32 == x else (x.toUInt32 % 65536).toInt32 == x
def t_ref (v : Value) : Bool := match v with
  | .null => true
  | .ref _ => true
  | _ => false
def gfI (h : tAH) (r : Value) (ci k : Nat) : Option Int32 := match r with
  | .ref a => match h a with
    | some (_, c, .inl fs) => if c = ci then match fs[k]? with
        | some (.int x) => some x
        | _ => none
      else none
    | _ => none
  | _ => none
def gfR (h : tAH) (r : Value) (ci k : Nat) : Option (Option Nat) := match r with
  | .ref a => match h a with
    | some (_, c, .inl fs) => if c = ci then match fs[k]? with
        | some .null => some none
        | some (.ref b) => some (some b)
        | _ => none
      else none
    | _ => none
  | _ => none
def pfV (h : tAH) (r : Value) (ci k : Nat) (v : Value) : Option tAH := match r with
  | .ref a => match h a with
    | some (true, c, .inl fs) => if c = ci then if k < fs.length then some (t_up h a (true, c, .inl (fs.set k v))) else none else none
    | _ => none
  | _ => none
def ldI (h : tAH) (r : Value) (i : Int32) (k1 k2 : Nat) : Option Int32 := match r with
  | .ref a => match h a with
    | some (_, kd, .inr (n, .inl f)) => if (kd = k1 ∨ kd = k2) ∧ t_in i n = true then some (f i.toNatClampNeg) else none
    | _ => none
  | _ => none
def ldL (h : tAH) (r : Value) (i : Int32) : Option Int64 := match r with
  | .ref a => match h a with
    | some (_, kd, .inr (n, .inr (.inl f))) => if kd = 3 ∧ t_in i n = true then some (f i.toNatClampNeg) else none
    | _ => none
  | _ => none
def ldR (h : tAH) (r : Value) (i : Int32) : Option (Option Nat) := match r with
  | .ref a => match h a with
    | some (_, kd, .inr (n, .inr (.inr (.inr (.inr f))))) => if 4 ≤ kd ∧ t_in i n = true then some (f i.toNatClampNeg) else none
    | _ => none
  | _ => none
def aLen (h : tAH) (r : Value) : Option Int32 := match r with
  | .ref a => match h a with
    | some (_, _, .inr (n, _)) => some (Int32.ofNat n)
    | _ => none
  | _ => none
def stI (h : tAH) (r : Value) (i : Int32) (k1 k2 : Nat) (x : Int32) : Option tAH := match r with
  | .ref a => match h a with
    | some (true, kd, .inr (n, .inl f)) => if (kd = k1 ∨ kd = k2) ∧ t_in i n = true then some (t_up h a (true, kd, .inr (n, .inl (upd f i.toNatClampNeg (t_nar kd x))))) else none
    | _ => none
  | _ => none
def stL (h : tAH) (r : Value) (i : Int32) (x : Int64) : Option tAH := match r with
  | .ref a => match h a with
    | some (true, kd, .inr (n, .inr (.inl f))) => if kd = 3 ∧ t_in i n = true then some (t_up h a (true, kd, .inr (n, .inr (.inl (vp_updL f i.toNatClampNeg x))))) else none
    | _ => none
  | _ => none
/-- is the value null, or an object of the kind c? -/
def t_isK (h : tAH) (v : Value) (c : Nat) : Option (Option Nat) := match v with
  | .null => some none
  | .ref b => match h b with
    | some (_, k, .inl _) => if k = c then some (some b) else none
    | _ => none
  | _ => none
def stR (h : tAH) (r : Value) (i : Int32) (kd c : Nat) (v : Value) : Option tAH := match t_isK h v c with
  | none => none
  | some o => match r with
    | .ref a => match h a with
      | some (true, k, .inr (n, .inr (.inr (.inr (.inr f))))) => if k = kd ∧ t_in i n = true then some (t_up h a (true, k, .inr (n, .inr (.inr (.inr (.inr (va_up f i.toNatClampNeg o))))))) else none
      | _ => none
    | _ => none
/-- an int array copied into another (or into itself) -/
def cpA (h : tAH) (r1 : Value) (i1 : Int32) (r2 : Value) (i2 n : Int32) : Option tAH := match r1, r2 with
  | .ref a, .ref b => match h a, h b with
    | some (_, k1, .inr (n1, .inl f)), some (true, k2, .inr (n2, .inl g)) => if k1 = k2 ∧ iI 0 ≤ i1 ∧ iI 0 ≤ i2 ∧ iI 0 ≤ n ∧ i1.toNatClampNeg + n.toNatClampNeg ≤ n1 ∧ i2.toNatClampNeg + n.toNatClampNeg ≤ n2 ∧ (k1 = 0 ∨ k1 < 3 ∧ (List.range n.toNatClampNeg).all (fun j => t_okR k1 (f (i1.toNatClampNeg + j))) = true) then some (t_up h b (true, k2, .inr (n2, .inl (va_cpy f g i1.toNatClampNeg i2.toNatClampNeg n.toNatClampNeg)))) else none
    | _, _ => none
  | _, _ => none
/-- an array of references of the kind kd with elements of the kind c copied into another -/
def cpR (h : tAH) (kd c : Nat) (r1 : Value) (i1 : Int32) (r2 : Value) (i2 n : Int32) : Option tAH := match r1, r2 with
  | .ref a, .ref b => match h a, h b with
    | some (_, k1, .inr (n1, .inr (.inr (.inr (.inr f))))), some (true, k2, .inr (n2, .inr (.inr (.inr (.inr g))))) => if k1 = kd ∧ k2 = kd ∧ iI 0 ≤ i1 ∧ iI 0 ≤ i2 ∧ iI 0 ≤ n ∧ i1.toNatClampNeg + n.toNatClampNeg ≤ n1 ∧ i2.toNatClampNeg + n.toNatClampNeg ≤ n2 ∧ (List.range n.toNatClampNeg).all (fun j => (t_isK h (va_rf (f (i1.toNatClampNeg + j))) c).isSome) = true then some (t_up h b (true, k2, .inr (n2, .inr (.inr (.inr (.inr (va_cpy f g i1.toNatClampNeg i2.toNatClampNeg n.toNatClampNeg))))))) else none
    | _, _ => none
  | _, _ => none
/-- an array of references cloned -/
def clR (h : tAH) (r : Value) (kd : Nat) : Option tEnt := match r with
  | .ref a => match h a with
    | some (_, k, .inr (n, .inr (.inr (.inr (.inr f))))) => if k = kd then some (true, k, .inr (n, .inr (.inr (.inr (.inr f))))) else none
    | _ => none
  | _ => none
/-- an array of bytes cloned -/
def clB (h : tAH) (r : Value) : Option tEnt := match r with
  | .ref a => match h a with
    | some (_, k, .inr (n, .inl f)) => if k = 2 ∧ (List.range n).all (fun j => t_okR 2 (f j)) = true then some (true, 2, .inr (n, .inl f)) else none
    | _ => none
  | _ => none
/-! the instructions -/
def t_c1 (v : Value) : Bool := match v with
  | .int _ => true
  | .null => true
  | .ref _ => true
  | _ => false
/-- few enough operands lie below a call -/
def t_rm (st : List Value) : Bool := decide (st.length ≤ 4) || (decide (st.length ≤ 8) && st.all t_c1)

def opStuck : tOp := fun _ => none
def opPush (v : Value) (npc : Nat) : tOp := fun fs => srN npc fs.1 (v :: fs.2.1) fs.2.2
/-- a lambda's site without values of its own -/
def opPushR (v : Value) (npc : Nat) : tOp := fun fs => if t_rm fs.2.1 = true then srN npc fs.1 (v :: fs.2.1) fs.2.2 else none
def opIL (k npc : Nat) : tOp := fun fs => match fs.1[k]? with
  | some (some (.int x)) => srN npc fs.1 (.int x :: fs.2.1) fs.2.2
  | _ => none
def opAL (k npc : Nat) : tOp := fun fs => match fs.1[k]? with
  | some (some .null) => srN npc fs.1 (.null :: fs.2.1) fs.2.2
  | some (some (.ref a)) => srN npc fs.1 (.ref a :: fs.2.1) fs.2.2
  | _ => none
def opDL (k npc : Nat) : tOp := fun fs => match fs.1[k]? with
  | some (some (.double x)) => srN npc fs.1 (.double x :: fs.2.1) fs.2.2
  | _ => none
def opIS (k npc : Nat) : tOp := fun fs => match fs.2.1 with
  | .int x :: st => if k < fs.1.length then srN npc (fs.1.set k (some (.int x))) st fs.2.2 else none
  | _ => none
/-- where the place ahead may hold a double -/
def opISC (k npc : Nat) : tOp := fun fs => match fs.2.1 with
  | .int x :: st => match fs.1[k - 1]? with
    | some (some (.int _)) => if k < fs.1.length then srN npc (fs.1.set k (some (.int x))) st fs.2.2 else none
    | _ => none
  | _ => none
def opAS (k npc : Nat) : tOp := fun fs => match fs.2.1 with
  | .null :: st => if k < fs.1.length then srN npc (fs.1.set k (some .null)) st fs.2.2 else none
  | .ref a :: st => if k < fs.1.length then srN npc (fs.1.set k (some (.ref a))) st fs.2.2 else none
  | _ => none
def opDS (k npc : Nat) : tOp := fun fs => match fs.2.1 with
  | .double x :: st => if k + 1 < fs.1.length then srN npc ((fs.1.set k (some (.double x))).set (k + 1) none) st fs.2.2 else none
  | _ => none
def opInc (k : Nat) (d : Int32) (npc : Nat) : tOp := fun fs => match fs.1[k]? with
  | some (some (.int x)) => srN npc (fs.1.set k (some (.int (x + d)))) fs.2.1 fs.2.2
  | _ => none
def opI2 (f : Int32 → Int32 → Int32) (npc : Nat) : tOp := fun fs => match fs.2.1 with
  | .int y :: .int x :: st => srN npc fs.1 (.int (f x y) :: st) fs.2.2
  | _ => none
def opDR (f : Int32 → Int32 → Int32) (npc : Nat) : tOp := fun fs => match fs.2.1 with
  | .int y :: .int x :: st => if y = iI 0 then none else srN npc fs.1 (.int (f x y) :: st) fs.2.2
  | _ => none
def opI1 (f : Int32 → Int32) (npc : Nat) : tOp := fun fs => match fs.2.1 with
  | .int x :: st => srN npc fs.1 (.int (f x) :: st) fs.2.2
  | _ => none
def opIV (f : Int32 → Value) (npc : Nat) : tOp := fun fs => match fs.2.1 with
  | .int x :: st => srN npc fs.1 (f x :: st) fs.2.2
  | _ => none
def opF2D (npc : Nat) : tOp := fun fs => match fs.2.1 with
  | .float x :: st => if FP.f2d x &&& 0x7fffffffffffffff ≤ 0x7ff0000000000000 then srN npc fs.1 (.double (FP.f2d x) :: st) fs.2.2 else none
  | _ => none
def opFDiv (npc : Nat) : tOp := fun fs => match fs.2.1 with
  | .float y :: .float x :: st => if FP.fdiv x y &&& 0x7fffffff ≤ 0x7f800000 then srN npc fs.1 (.float (FP.fdiv x y) :: st) fs.2.2 else none
  | _ => none
def opDDiv (npc : Nat) : tOp := fun fs => match fs.2.1 with
  | .double y :: .double x :: st => if FP.ddiv x y &&& 0x7fffffffffffffff ≤ 0x7ff0000000000000 then srN npc fs.1 (.double (FP.ddiv x y) :: st) fs.2.2 else none
  | _ => none
def opDCmp (o : CmpOp) (npc : Nat) : tOp := fun fs => match fs.2.1 with
  | .double y :: .double x :: st => srN npc fs.1 (.int (Op.cmpValue (FP.dcmp x y) o) :: st) fs.2.2
  | _ => none
def opLCmp (npc : Nat) : tOp := fun fs => match fs.2.1 with
  | .long y :: .long x :: st => srN npc fs.1 (.int (lg_cmp x y) :: st) fs.2.2
  | _ => none
def opDup (npc : Nat) : tOp := fun fs => match fs.2.1 with
  | v :: st => if t_c1 v = true then srN npc fs.1 (v :: v :: st) fs.2.2 else none
  | _ => none
def opDupX1 (npc : Nat) : tOp := fun fs => match fs.2.1 with
  | v :: w :: st => if t_c1 v = true ∧ t_c1 w = true then srN npc fs.1 (v :: w :: v :: st) fs.2.2 else none
  | _ => none
def opDup2 (npc : Nat) : tOp := fun fs => match fs.2.1 with
  | v :: w :: st => if t_c1 v = true ∧ t_c1 w = true then srN npc fs.1 (v :: w :: v :: w :: st) fs.2.2 else none
  | _ => none
def opPop (npc : Nat) : tOp := fun fs => match fs.2.1 with
  | v :: st => if t_c1 v = true then srN npc fs.1 st fs.2.2 else none
  | _ => none
def opIf0 (t npc : Nat) : tOp := fun fs => match fs.2.1 with
  | .int x :: st => if x = iI 0 then srN t fs.1 st fs.2.2 else srN npc fs.1 st fs.2.2
  | _ => none
def opIfL (t npc : Nat) : tOp := fun fs => match fs.2.1 with
  | .int x :: st => if x < iI 0 then srN t fs.1 st fs.2.2 else srN npc fs.1 st fs.2.2
  | _ => none
def opIfG (t npc : Nat) : tOp := fun fs => match fs.2.1 with
  | .int x :: st => if iI 0 < x then srN t fs.1 st fs.2.2 else srN npc fs.1 st fs.2.2
  | _ => none
def opCmE (t npc : Nat) : tOp := fun fs => match fs.2.1 with
  | .int y :: .int x :: st => if x = y then srN t fs.1 st fs.2.2 else srN npc fs.1 st fs.2.2
  | _ => none
def opCmL (t npc : Nat) : tOp := fun fs => match fs.2.1 with
  | .int y :: .int x :: st => if x < y then srN t fs.1 st fs.2.2 else srN npc fs.1 st fs.2.2
  | _ => none
def opCmG (t npc : Nat) : tOp := fun fs => match fs.2.1 with
  | .int y :: .int x :: st => if y < x then srN t fs.1 st fs.2.2 else srN npc fs.1 st fs.2.2
  | _ => none
def opNul (t npc : Nat) : tOp := fun fs => match fs.2.1 with
  | .null :: st => srN t fs.1 st fs.2.2
  | .ref _ :: st => srN npc fs.1 st fs.2.2
  | _ => none
def opAcE (t npc : Nat) : tOp := fun fs => match fs.2.1 with
  | .ref y :: .ref x :: st => if x = y then srN t fs.1 st fs.2.2 else srN npc fs.1 st fs.2.2
  | _ => none
def opGo (npc : Nat) : tOp := fun fs => srN npc fs.1 fs.2.1 fs.2.2
def t_sw {α : Type} (E : Nat → α) : List (Int32 × Nat) → Nat → Int32 → α
  | [], d, _ => E d
  | q :: l, d, x => if x = q.1 then E q.2 else t_sw E l d x
def opSw (l : List (Int32 × Nat)) (d : Nat) : tOp := fun fs => match fs.2.1 with
  | .int x :: st => t_sw (fun t => srN t fs.1 st fs.2.2) l d x
  | _ => none
def opGI (ci k npc : Nat) : tOp := fun fs => match fs.2.1 with
  | r :: st => match gfI fs.2.2.1 r ci k with
    | some x => srN npc fs.1 (.int x :: st) fs.2.2
    | none => none
  | _ => none
def opGR (ci k npc : Nat) : tOp := fun fs => match fs.2.1 with
  | r :: st => match gfR fs.2.2.1 r ci k with
    | some x => srN npc fs.1 (va_rf x :: st) fs.2.2
    | none => none
  | _ => none
/-- a field of ints (c: 0 int, 1 boolean, 2 byte) -/
def opPI (ci k c npc : Nat) : tOp := fun fs => match fs.2.1 with
  | .int x :: r :: st => if t_okR c x = true then match pfV fs.2.2.1 r ci k (.int x) with
      | some h => srN npc fs.1 st (h, fs.2.2.2)
      | none => none
    else none
  | _ => none
def opPR (ci k npc : Nat) : tOp := fun fs => match fs.2.1 with
  | v :: r :: st => if t_ref v = true then match pfV fs.2.2.1 r ci k v with
      | some h => srN npc fs.1 st (h, fs.2.2.2)
      | none => none
    else none
  | _ => none
def opNew (ci : Nat) (vs : List Value) (npc : Nat) : tOp := fun fs => srN npc fs.1 (.ref fs.2.2.2.1 :: fs.2.1) (t_al fs.2.2 (true, ci, .inl vs) vs.length)
/-- .. of an own exception, whose class has m fields in all -/
def opNewE (ci m : Nat) (vs : List Value) (npc : Nat) : tOp := fun fs => srN npc fs.1 (.ref fs.2.2.2.1 :: fs.2.1) (t_al fs.2.2 (true, ci, .inl vs) m)
/-- an array of small whole numbers (kd: 0 int, 1 boolean, 2 byte), or of longs (3) -/
def t_arr0 (kd n : Nat) : tEnt := (true, kd, .inr (n, if kd = 3 then .inr (.inl (fun _ => 0)) else if 4 ≤ kd then .inr (.inr (.inr (.inr (fun _ => none)))) else .inl (fun _ => 0)))
def opNewA (kd npc : Nat) : tOp := fun fs => match fs.2.1 with
  | .int n :: st => if iI 0 ≤ n ∧ n ≤ iI 1000000 then srN npc fs.1 (.ref fs.2.2.2.1 :: st) (t_al fs.2.2 (t_arr0 kd n.toNatClampNeg) n.toNatClampNeg) else none
  | _ => none
def opLen (npc : Nat) : tOp := fun fs => match fs.2.1 with
  | r :: st => match aLen fs.2.2.1 r with
    | some x => srN npc fs.1 (.int x :: st) fs.2.2
    | none => none
  | _ => none
def opAI (k1 k2 npc : Nat) : tOp := fun fs => match fs.2.1 with
  | .int i :: r :: st => match ldI fs.2.2.1 r i k1 k2 with
    | some x => srN npc fs.1 (.int x :: st) fs.2.2
    | none => none
  | _ => none
def opALn (npc : Nat) : tOp := fun fs => match fs.2.1 with
  | .int i :: r :: st => match ldL fs.2.2.1 r i with
    | some x => srN npc fs.1 (.long x :: st) fs.2.2
    | none => none
  | _ => none
def opAR (npc : Nat) : tOp := fun fs => match fs.2.1 with
  | .int i :: r :: st => match ldR fs.2.2.1 r i with
    | some x => srN npc fs.1 (va_rf x :: st) fs.2.2
    | none => none
  | _ => none
def opSI (k1 k2 npc : Nat) : tOp := fun fs => match fs.2.1 with
  | .int x :: .int i :: r :: st => match stI fs.2.2.1 r i k1 k2 x with
    | some h => srN npc fs.1 st (h, fs.2.2.2)
    | none => none
  | _ => none
def opSL (npc : Nat) : tOp := fun fs => match fs.2.1 with
  | .long x :: .int i :: r :: st => match stL fs.2.2.1 r i x with
    | some h => srN npc fs.1 st (h, fs.2.2.2)
    | none => none
  | _ => none
def opSR (kd c npc : Nat) : tOp := fun fs => match fs.2.1 with
  | v :: .int i :: r :: st => match stR fs.2.2.1 r i kd c v with
    | some h => srN npc fs.1 st (h, fs.2.2.2)
    | none => none
  | _ => none
/-- checkcast: null, or an object of the kind c -/
def opCast (c npc : Nat) : tOp := fun fs => match fs.2.1 with
  | v :: st => match t_isK fs.2.2.1 v c with
    | some o => srN npc fs.1 (va_rf o :: st) fs.2.2
    | none => none
  | _ => none
/-- checkcast of an array of the kind kd -/
def opCastA (kd npc : Nat) : tOp := fun fs => match fs.2.1 with
  | .ref a :: st => match fs.2.2.1 a with
    | some (_, k, .inr _) => if k = kd then srN npc fs.1 (.ref a :: st) fs.2.2 else none
    | _ => none
  | _ => none
/-- instanceof, of an object of the class itself -/
def opInst (c npc : Nat) : tOp := fun fs => match fs.2.1 with
  | .ref a :: st => match fs.2.2.1 a with
    | some (_, k, .inl _) => if k = c then srN npc fs.1 (.int (iI 1) :: st) fs.2.2 else none
    | _ => none
  | _ => none
def opThrow : tOp := fun fs => match fs.2.1 with
  | .ref a :: _ => match fs.2.2.1 a with
    | some (_, k, .inl _) => if 13 ≤ k ∧ k ≤ 17 then srT a fs.2.2 else none
    | _ => none
  | _ => none
def opRetV : tOp := fun fs => match fs.2.1 with
  | [] => srR none fs.2.2
  | _ => none
def opRetI (c : Nat) : tOp := fun fs => match fs.2.1 with
  | [.int x] => if t_okR c x = true then srR (some (.int x)) fs.2.2 else none
  | _ => none
def opRetR : tOp := fun fs => match fs.2.1 with
  | [.null] => srR (some .null) fs.2.2
  | [.ref a] => srR (some (.ref a)) fs.2.2
  | _ => none
def opRetF : tOp := fun fs => match fs.2.1 with
  | [.float x] => srR (some (.float x)) fs.2.2
  | _ => none
def opRetD : tOp := fun fs => match fs.2.1 with
  | [.double x] => srR (some (.double x)) fs.2.2
  | _ => none
/-- a static call with n arguments, k more locals -/
def opCS (y n k tag npc : Nat) : tOp := fun fs => if n ≤ fs.2.1.length ∧ (fs.2.1.take n).all t_c1 = true ∧ t_rm (fs.2.1.drop n) = true then srC y (fs.2.1.take n).reverse k tag npc fs.1 (fs.2.1.drop n) fs.2.2 else none
/-- the address of an object of the kind c -/
def t_kN (h : tAH) (v : Value) (c : Nat) : Option Nat := match v with
  | .ref a => match h a with
    | some (_, k, .inl _) => if k = c then some a else none
    | _ => none
  | _ => none
/-- a call through an object: n arguments beside the receiver, of the kind c -/
def opCV (c y n k tag npc : Nat) : tOp := fun fs => match fs.2.1.drop n with
  | r :: st => match t_kN fs.2.2.1 r c with
    | some a => if (fs.2.1.take n).all t_c1 = true ∧ t_rm st = true then srC y (.ref a :: (fs.2.1.take n).reverse) k tag npc fs.1 st fs.2.2 else none
    | none => none
  | _ => none
/-- a constructor's call: no kind is asked -/
def opCI (y n k npc : Nat) : tOp := fun fs => match fs.2.1.drop n with
  | .ref a :: st => if (fs.2.1.take n).all t_c1 = true ∧ t_rm st = true then srC y (.ref a :: (fs.2.1.take n).reverse) k 0 npc fs.1 st fs.2.2 else none
  | _ => none
/-- Object.<init> -/
def opOI (npc : Nat) : tOp := fun fs => match fs.2.1 with
  | .ref _ :: st => if t_rm st = true then srN npc fs.1 st fs.2.2 else none
  | _ => none
def opCpA (npc : Nat) : tOp := fun fs => match fs.2.1 with
  | .int n :: .int i2 :: r2 :: .int i1 :: r1 :: st => match cpA fs.2.2.1 r1 i1 r2 i2 n with
    | some h => if t_rm st = true then srN npc fs.1 st (h, fs.2.2.2) else none
    | none => none
  | _ => none
def opCpR (kd c npc : Nat) : tOp := fun fs => match fs.2.1 with
  | .int n :: .int i2 :: r2 :: .int i1 :: r1 :: st => match cpR fs.2.2.1 kd c r1 i1 r2 i2 n with
    | some h => if t_rm st = true then srN npc fs.1 st (h, fs.2.2.2) else none
    | none => none
  | _ => none
def opClone (kd npc : Nat) : tOp := fun fs => match fs.2.1 with
  | r :: st => match clR fs.2.2.1 r kd with
    | some e => if t_rm st = true then srN npc fs.1 (.ref fs.2.2.2.1 :: st) (t_al fs.2.2 e (match e.2.2 with
      | .inr x => x.1
      | .inl _ => 0)) else none
    | none => none
  | _ => none
def opCloneB (npc : Nat) : tOp := fun fs => match fs.2.1 with
  | r :: st => match clB fs.2.2.1 r with
    | some e => if t_rm st = true then srN npc fs.1 (.ref fs.2.2.2.1 :: st) (t_al fs.2.2 e (match e.2.2 with
      | .inr x => x.1
      | .inl _ => 0)) else none
    | none => none
  | _ => none
/-- 'new E()' of a library's exception, its constructor and all -/
def opMake (ci npc : Nat) : tOp := fun fs => if t_rm fs.2.1 = true then srN npc fs.1 (.ref fs.2.2.2.1 :: fs.2.1) (t_al fs.2.2 (true, ci, .inl []) 6) else none
/-- the kinds of what a lambda holds: an int, or a reference -/
def t_tyl : List Bool → List Value → Bool
  | [], [] => true
  | true :: bs, .int _ :: vs => t_tyl bs vs
  | false :: bs, v :: vs => t_ref v && t_tyl bs vs
  | _, _ => false
/-- a lambda's site, with values of its own -/
def opLam (kd : Nat) (bs : List Bool) (npc : Nat) : tOp := fun fs => if bs.length ≤ fs.2.1.length ∧ t_tyl bs (fs.2.1.take bs.length).reverse = true ∧ t_rm (fs.2.1.drop bs.length) = true then srN npc fs.1 (.ref fs.2.2.2.1 :: fs.2.1.drop bs.length) (t_al fs.2.2 (true, kd, .inl (fs.2.1.take bs.length).reverse) bs.length) else none
/-- a call through an interface, of a lambda's object: ps has its kinds: kind, the method that it stands for, that method's further locals, the kind of the object that it is called on (99: none), how many values it holds -/
def t_fn (h : tAH) (r : Value) (ps : List (Nat × Nat × Nat × Nat × Nat)) : Option (Nat × Nat × List Value) := match r with
  | .ref a => match h a with
    | some (_, c, .inl vs) => if vs.all t_c1 = true then match ps.find? (fun q => q.1 == c) with
        | some q => if vs.length = q.2.2.2.2 ∧ (q.2.2.2.1 = 99 ∨ (t_kN h (vs.headD .null) q.2.2.2.1).isSome = true) then some (q.2.1, q.2.2.1, vs) else none
        | none => none
      else none
    | _ => none
  | _ => none
def opFn (ps : List (Nat × Nat × Nat × Nat × Nat)) (n tag npc : Nat) : tOp := fun fs => match fs.2.1.drop n with
  | r :: st => match t_fn fs.2.2.1 r ps with
    | some q => if (fs.2.1.take n).all t_ref = true ∧ t_rm st = true then srC q.1 (q.2.2 ++ (fs.2.1.take n).reverse) q.2.1 tag npc fs.1 st fs.2.2 else none
    | none => none
  | _ => none
/-- .. of one that may be written -/
def t_kM (h : tAH) (v : Value) (c : Nat) : Option Nat := match v with
  | .ref a => match h a with
    | some (true, k, .inl _) => if k = c then some a else none
    | _ => none
  | _ => none
/-- the library's part of the construction of an own exception (kind ci), with n arguments -/
def opSup (ci n npc : Nat) : tOp := fun fs => match fs.2.1.drop n with
  | r :: st => match t_kM fs.2.2.1 r ci with
    | some _ => if (fs.2.1.take n).all t_ref = true ∧ t_rm st = true then srN npc fs.1 st fs.2.2 else none
    | none => none
  | _ => none
