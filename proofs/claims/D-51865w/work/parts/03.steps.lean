/-! ===== what an instruction does to the run's result ===== -/
theorem t_c1_rf (o : Option Nat) : t_c1 (va_rf o) = true := by cases o <;> rfl
theorem t_ref_rf (o : Option Nat) : t_ref (va_rf o) = true := by cases o <;> rfl
theorem t_r0 : ([] : List Value).all t_ref = true := rfl
theorem t_r1 {v : Value} {l : List Value} (h1 : t_ref v = true) (h2 : l.all t_ref = true) : (v :: l).all t_ref = true := by rw [List.all_cons, h1, h2]; rfl
theorem t_tyi {x : Int32} {bs : List Bool} {vs : List Value} (h : t_tyl bs vs = true) : t_tyl (true :: bs) (.int x :: vs) = true := h
theorem t_tyr {v : Value} {bs : List Bool} {vs : List Value} (h1 : t_ref v = true) (h : t_tyl bs vs = true) : t_tyl (false :: bs) (v :: vs) = true := by
  show (t_ref v && t_tyl bs vs) = true
  rw [h1, h]; rfl
theorem t_a0 : ([] : List Value).all t_c1 = true := rfl
theorem t_a1 {v : Value} {l : List Value} (h1 : t_c1 v = true) (h2 : l.all t_c1 = true) : (v :: l).all t_c1 = true := by rw [List.all_cons, h1, h2]; rfl
theorem t_rm8 {l : List Value} (h1 : l.length ≤ 8) (h2 : l.all t_c1 = true) : t_rm l = true := by
  unfold t_rm
  rw [h2, decide_eq_true h1]
  simp
section ST
variable {pg : Nat → Nat → tOp} {hd : tHd} {y pc npc : Nat} {ls : tLs} {st : List Value} {hs : tHS}
theorem st_pushR {v : Value} (hp : pg y pc = opPushR v npc) (h : t_rm st = true) : t_Ev pg hd y pc (ls, st, hs) = t_Ev pg hd y npc (ls, v :: st, hs) := ev_next (by rw [hp]; simp only [opPushR, h, if_true])
theorem st_push {v : Value} (hp : pg y pc = opPush v npc) : t_Ev pg hd y pc (ls, st, hs) = t_Ev pg hd y npc (ls, v :: st, hs) := ev_next (by rw [hp]; rfl)
theorem st_il {k : Nat} {x : Int32} (hp : pg y pc = opIL k npc) (hx : ls[k]? = some (some (.int x))) : t_Ev pg hd y pc (ls, st, hs) = t_Ev pg hd y npc (ls, .int x :: st, hs) := ev_next (by rw [hp]; simp only [opIL, hx])
theorem st_al {k : Nat} (o : Option Nat) (hp : pg y pc = opAL k npc) (hx : ls[k]? = some (some (va_rf o))) : t_Ev pg hd y pc (ls, st, hs) = t_Ev pg hd y npc (ls, va_rf o :: st, hs) := by
  cases o with
  | none => exact ev_next (by rw [hp]; simp only [opAL, hx, va_rf])
  | some a => exact ev_next (by rw [hp]; simp only [opAL, hx, va_rf])
theorem st_dl {k : Nat} {x : UInt64} (hp : pg y pc = opDL k npc) (hx : ls[k]? = some (some (.double x))) : t_Ev pg hd y pc (ls, st, hs) = t_Ev pg hd y npc (ls, .double x :: st, hs) := ev_next (by rw [hp]; simp only [opDL, hx])
theorem st_is {k : Nat} {x : Int32} {ls' : tLs} (hp : pg y pc = opIS k npc) (hk : k < ls.length) (hl : ls.set k (some (.int x)) = ls') : t_Ev pg hd y pc (ls, .int x :: st, hs) = t_Ev pg hd y npc (ls', st, hs) := ev_next (by rw [hp, ← hl]; simp only [opIS, hk, if_true])
theorem st_isc {k : Nat} {x z : Int32} {ls' : tLs} (hp : pg y pc = opISC k npc) (hz : ls[k - 1]? = some (some (.int z))) (hk : k < ls.length) (hl : ls.set k (some (.int x)) = ls') : t_Ev pg hd y pc (ls, .int x :: st, hs) = t_Ev pg hd y npc (ls', st, hs) := ev_next (by rw [hp, ← hl]; simp only [opISC, hk, hz, if_true])
theorem st_as {k : Nat} (o : Option Nat) {ls' : tLs} (hp : pg y pc = opAS k npc) (hk : k < ls.length) (hl : ls.set k (some (va_rf o)) = ls') : t_Ev pg hd y pc (ls, va_rf o :: st, hs) = t_Ev pg hd y npc (ls', st, hs) := by
  cases o with
  | none => exact ev_next (by rw [hp, ← hl]; simp only [opAS, hk, if_true, va_rf])
  | some a => exact ev_next (by rw [hp, ← hl]; simp only [opAS, hk, if_true, va_rf])
theorem st_ds {k : Nat} {x : UInt64} {ls' : tLs} (hp : pg y pc = opDS k npc) (hk : k + 1 < ls.length) (hl : (ls.set k (some (.double x))).set (k + 1) none = ls') : t_Ev pg hd y pc (ls, .double x :: st, hs) = t_Ev pg hd y npc (ls', st, hs) := ev_next (by rw [hp, ← hl]; simp only [opDS, hk, if_true])
theorem st_inc {k : Nat} {d x : Int32} {ls' : tLs} (hp : pg y pc = opInc k d npc) (hx : ls[k]? = some (some (.int x))) (hl : ls.set k (some (.int (x + d))) = ls') : t_Ev pg hd y pc (ls, st, hs) = t_Ev pg hd y npc (ls', st, hs) := ev_next (by rw [hp, ← hl]; simp only [opInc, hx])
theorem st_i2 {f : Int32 → Int32 → Int32} {x z : Int32} (hp : pg y pc = opI2 f npc) : t_Ev pg hd y pc (ls, .int z :: .int x :: st, hs) = t_Ev pg hd y npc (ls, .int (f x z) :: st, hs) := ev_next (by rw [hp]; rfl)
theorem st_dr {f : Int32 → Int32 → Int32} {x z : Int32} (hp : pg y pc = opDR f npc) : t_Ev pg hd y pc (ls, .int z :: .int x :: st, hs) = if z = iI 0 then none else t_Ev pg hd y npc (ls, .int (f x z) :: st, hs) := by
  by_cases h : z = iI 0
  · rw [if_pos h]; exact ev_none (by rw [hp]; simp only [opDR, if_pos h])
  · rw [if_neg h]; exact ev_next (by rw [hp]; simp only [opDR, if_neg h])
theorem st_i1 {f : Int32 → Int32} {x : Int32} (hp : pg y pc = opI1 f npc) : t_Ev pg hd y pc (ls, .int x :: st, hs) = t_Ev pg hd y npc (ls, .int (f x) :: st, hs) := ev_next (by rw [hp]; rfl)
theorem st_iv {f : Int32 → Value} {x : Int32} (hp : pg y pc = opIV f npc) : t_Ev pg hd y pc (ls, .int x :: st, hs) = t_Ev pg hd y npc (ls, f x :: st, hs) := ev_next (by rw [hp]; rfl)
theorem st_f2d {x : UInt32} (hp : pg y pc = opF2D npc) : t_Ev pg hd y pc (ls, .float x :: st, hs) = if FP.f2d x &&& 0x7fffffffffffffff ≤ 0x7ff0000000000000 then t_Ev pg hd y npc (ls, .double (FP.f2d x) :: st, hs) else none := by
  by_cases h : FP.f2d x &&& 0x7fffffffffffffff ≤ 0x7ff0000000000000
  · rw [if_pos h]; exact ev_next (by rw [hp]; simp only [opF2D, if_pos h])
  · rw [if_neg h]; exact ev_none (by rw [hp]; simp only [opF2D, if_neg h])
theorem st_fdiv {x z : UInt32} (hp : pg y pc = opFDiv npc) : t_Ev pg hd y pc (ls, .float z :: .float x :: st, hs) = if FP.fdiv x z &&& 0x7fffffff ≤ 0x7f800000 then t_Ev pg hd y npc (ls, .float (FP.fdiv x z) :: st, hs) else none := by
  by_cases h : FP.fdiv x z &&& 0x7fffffff ≤ 0x7f800000
  · rw [if_pos h]; exact ev_next (by rw [hp]; simp only [opFDiv, if_pos h])
  · rw [if_neg h]; exact ev_none (by rw [hp]; simp only [opFDiv, if_neg h])
theorem st_ddiv {x z : UInt64} (hp : pg y pc = opDDiv npc) : t_Ev pg hd y pc (ls, .double z :: .double x :: st, hs) = if FP.ddiv x z &&& 0x7fffffffffffffff ≤ 0x7ff0000000000000 then t_Ev pg hd y npc (ls, .double (FP.ddiv x z) :: st, hs) else none := by
  by_cases h : FP.ddiv x z &&& 0x7fffffffffffffff ≤ 0x7ff0000000000000
  · rw [if_pos h]; exact ev_next (by rw [hp]; simp only [opDDiv, if_pos h])
  · rw [if_neg h]; exact ev_none (by rw [hp]; simp only [opDDiv, if_neg h])
theorem st_dcmp {o : CmpOp} {x z : UInt64} (hp : pg y pc = opDCmp o npc) : t_Ev pg hd y pc (ls, .double z :: .double x :: st, hs) = t_Ev pg hd y npc (ls, .int (Op.cmpValue (FP.dcmp x z) o) :: st, hs) := ev_next (by rw [hp]; rfl)
theorem st_lcmp {x z : Int64} (hp : pg y pc = opLCmp npc) : t_Ev pg hd y pc (ls, .long z :: .long x :: st, hs) = t_Ev pg hd y npc (ls, .int (lg_cmp x z) :: st, hs) := ev_next (by rw [hp]; rfl)
theorem st_dup {v : Value} (hp : pg y pc = opDup npc) (hv : t_c1 v = true) : t_Ev pg hd y pc (ls, v :: st, hs) = t_Ev pg hd y npc (ls, v :: v :: st, hs) := ev_next (by rw [hp]; simp only [opDup, hv, if_true])
theorem st_dupx1 {v w : Value} (hp : pg y pc = opDupX1 npc) (hv : t_c1 v = true) (hw : t_c1 w = true) : t_Ev pg hd y pc (ls, v :: w :: st, hs) = t_Ev pg hd y npc (ls, v :: w :: v :: st, hs) := ev_next (by rw [hp]; simp only [opDupX1, hv, hw, and_self, if_true])
theorem st_dup2 {v w : Value} (hp : pg y pc = opDup2 npc) (hv : t_c1 v = true) (hw : t_c1 w = true) : t_Ev pg hd y pc (ls, v :: w :: st, hs) = t_Ev pg hd y npc (ls, v :: w :: v :: w :: st, hs) := ev_next (by rw [hp]; simp only [opDup2, hv, hw, and_self, if_true])
theorem st_pop {v : Value} (hp : pg y pc = opPop npc) (hv : t_c1 v = true) : t_Ev pg hd y pc (ls, v :: st, hs) = t_Ev pg hd y npc (ls, st, hs) := ev_next (by rw [hp]; simp only [opPop, hv, if_true])
theorem st_if0 {x : Int32} {t : Nat} (hp : pg y pc = opIf0 t npc) : t_Ev pg hd y pc (ls, .int x :: st, hs) = if x = iI 0 then t_Ev pg hd y t (ls, st, hs) else t_Ev pg hd y npc (ls, st, hs) := by
  by_cases h : x = iI 0
  · rw [if_pos h]; exact ev_next (by rw [hp]; simp only [opIf0, if_pos h])
  · rw [if_neg h]; exact ev_next (by rw [hp]; simp only [opIf0, if_neg h])
theorem st_ifl {x : Int32} {t : Nat} (hp : pg y pc = opIfL t npc) : t_Ev pg hd y pc (ls, .int x :: st, hs) = if x < iI 0 then t_Ev pg hd y t (ls, st, hs) else t_Ev pg hd y npc (ls, st, hs) := by
  by_cases h : x < iI 0
  · rw [if_pos h]; exact ev_next (by rw [hp]; simp only [opIfL, if_pos h])
  · rw [if_neg h]; exact ev_next (by rw [hp]; simp only [opIfL, if_neg h])
theorem st_ifg {x : Int32} {t : Nat} (hp : pg y pc = opIfG t npc) : t_Ev pg hd y pc (ls, .int x :: st, hs) = if iI 0 < x then t_Ev pg hd y t (ls, st, hs) else t_Ev pg hd y npc (ls, st, hs) := by
  by_cases h : iI 0 < x
  · rw [if_pos h]; exact ev_next (by rw [hp]; simp only [opIfG, if_pos h])
  · rw [if_neg h]; exact ev_next (by rw [hp]; simp only [opIfG, if_neg h])
theorem st_cme {x z : Int32} {t : Nat} (hp : pg y pc = opCmE t npc) : t_Ev pg hd y pc (ls, .int z :: .int x :: st, hs) = if x = z then t_Ev pg hd y t (ls, st, hs) else t_Ev pg hd y npc (ls, st, hs) := by
  by_cases h : x = z
  · rw [if_pos h]; exact ev_next (by rw [hp]; simp only [opCmE, if_pos h])
  · rw [if_neg h]; exact ev_next (by rw [hp]; simp only [opCmE, if_neg h])
theorem st_cml {x z : Int32} {t : Nat} (hp : pg y pc = opCmL t npc) : t_Ev pg hd y pc (ls, .int z :: .int x :: st, hs) = if x < z then t_Ev pg hd y t (ls, st, hs) else t_Ev pg hd y npc (ls, st, hs) := by
  by_cases h : x < z
  · rw [if_pos h]; exact ev_next (by rw [hp]; simp only [opCmL, if_pos h])
  · rw [if_neg h]; exact ev_next (by rw [hp]; simp only [opCmL, if_neg h])
theorem st_cmg {x z : Int32} {t : Nat} (hp : pg y pc = opCmG t npc) : t_Ev pg hd y pc (ls, .int z :: .int x :: st, hs) = if z < x then t_Ev pg hd y t (ls, st, hs) else t_Ev pg hd y npc (ls, st, hs) := by
  by_cases h : z < x
  · rw [if_pos h]; exact ev_next (by rw [hp]; simp only [opCmG, if_pos h])
  · rw [if_neg h]; exact ev_next (by rw [hp]; simp only [opCmG, if_neg h])
theorem st_nul {t : Nat} (o : Option Nat) (hp : pg y pc = opNul t npc) : t_Ev pg hd y pc (ls, va_rf o :: st, hs) = if o = none then t_Ev pg hd y t (ls, st, hs) else t_Ev pg hd y npc (ls, st, hs) := by
  cases o with
  | none => exact ev_next (by rw [hp]; rfl)
  | some a => rw [if_neg (fun h => by cases h)]; exact ev_next (by rw [hp]; rfl)
theorem st_ace {x z t : Nat} (hp : pg y pc = opAcE t npc) : t_Ev pg hd y pc (ls, .ref z :: .ref x :: st, hs) = if x = z then t_Ev pg hd y t (ls, st, hs) else t_Ev pg hd y npc (ls, st, hs) := by
  by_cases h : x = z
  · rw [if_pos h]; exact ev_next (by rw [hp]; simp only [opAcE, if_pos h])
  · rw [if_neg h]; exact ev_next (by rw [hp]; simp only [opAcE, if_neg h])
theorem st_go (hp : pg y pc = opGo npc) : t_Ev pg hd y pc (ls, st, hs) = t_Ev pg hd y npc (ls, st, hs) := ev_next (by rw [hp]; rfl)
theorem t_sw_ev {x : Int32} : ∀ (l : List (Int32 × Nat)) (d : Nat), t_sw (fun t => srN t ls st hs) l d x = srN (t_sw (fun t => t) l d x) ls st hs := by
  intro l d
  induction l with
  | nil => rfl
  | cons q l ih =>
    unfold t_sw
    split
    · rfl
    · exact ih
theorem t_sw_map {α : Type} {E : Nat → α} {x : Int32} : ∀ (l : List (Int32 × Nat)) (d : Nat), E (t_sw (fun t => t) l d x) = t_sw E l d x := by
  intro l d
  induction l with
  | nil => rfl
  | cons q l ih =>
    unfold t_sw
    split
    · rfl
    · exact ih
theorem st_sw {l : List (Int32 × Nat)} {d : Nat} {x : Int32} (hp : pg y pc = opSw l d) : t_Ev pg hd y pc (ls, .int x :: st, hs) = t_sw (fun t => t_Ev pg hd y t (ls, st, hs)) l d x := by
  rw [← t_sw_map (E := fun t => t_Ev pg hd y t (ls, st, hs))]
  exact ev_next (by rw [hp]; exact t_sw_ev l d)
theorem st_gi {ci k : Nat} {r : Value} (hp : pg y pc = opGI ci k npc) : t_Ev pg hd y pc (ls, r :: st, hs) = (gfI hs.1 r ci k).bind fun x => t_Ev pg hd y npc (ls, .int x :: st, hs) := by
  cases h : gfI hs.1 r ci k with
  | none => exact ev_none (by rw [hp]; simp only [opGI, h])
  | some x => exact ev_next (by rw [hp]; simp only [opGI, h])
theorem st_gr {ci k : Nat} {r : Value} (hp : pg y pc = opGR ci k npc) : t_Ev pg hd y pc (ls, r :: st, hs) = (gfR hs.1 r ci k).bind fun x => t_Ev pg hd y npc (ls, va_rf x :: st, hs) := by
  cases h : gfR hs.1 r ci k with
  | none => exact ev_none (by rw [hp]; simp only [opGR, h])
  | some x => exact ev_next (by rw [hp]; simp only [opGR, h])
theorem st_pi0 {ci k : Nat} {r : Value} {x : Int32} (hp : pg y pc = opPI ci k 0 npc) : t_Ev pg hd y pc (ls, .int x :: r :: st, hs) = (pfV hs.1 r ci k (.int x)).bind fun h => t_Ev pg hd y npc (ls, st, h, hs.2) := by
  cases h : pfV hs.1 r ci k (.int x) with
  | none => exact ev_none (by rw [hp]; simp only [opPI, h]; rfl)
  | some x => exact ev_next (by rw [hp]; simp only [opPI, h]; rfl)
theorem st_pi {ci k c : Nat} {r : Value} {x : Int32} (hp : pg y pc = opPI ci k c npc) : t_Ev pg hd y pc (ls, .int x :: r :: st, hs) = if t_okR c x = true then (pfV hs.1 r ci k (.int x)).bind fun h => t_Ev pg hd y npc (ls, st, h, hs.2) else none := by
  by_cases hc : t_okR c x = true
  · rw [if_pos hc]
    cases h : pfV hs.1 r ci k (.int x) with
    | none => exact ev_none (by rw [hp]; simp only [opPI, h, if_pos hc])
    | some x => exact ev_next (by rw [hp]; simp only [opPI, h, if_pos hc])
  · rw [if_neg hc]; exact ev_none (by rw [hp]; simp only [opPI, if_neg hc])
theorem st_pr {ci k : Nat} {r v : Value} (hp : pg y pc = opPR ci k npc) (hv : t_ref v = true) : t_Ev pg hd y pc (ls, v :: r :: st, hs) = (pfV hs.1 r ci k v).bind fun h => t_Ev pg hd y npc (ls, st, h, hs.2) := by
  cases h : pfV hs.1 r ci k v with
  | none => exact ev_none (by rw [hp]; simp only [opPR, h, hv, if_true])
  | some x => exact ev_next (by rw [hp]; simp only [opPR, h, hv, if_true])
theorem st_new {ci : Nat} {vs : List Value} (hp : pg y pc = opNew ci vs npc) : t_Ev pg hd y pc (ls, st, hs) = t_Ev pg hd y npc (ls, .ref hs.2.1 :: st, t_al hs (true, ci, .inl vs) vs.length) := ev_next (by rw [hp]; rfl)
theorem st_newE {ci m : Nat} {vs : List Value} (hp : pg y pc = opNewE ci m vs npc) : t_Ev pg hd y pc (ls, st, hs) = t_Ev pg hd y npc (ls, .ref hs.2.1 :: st, t_al hs (true, ci, .inl vs) m) := ev_next (by rw [hp]; rfl)
theorem st_newa {kd : Nat} {n : Int32} (hp : pg y pc = opNewA kd npc) : t_Ev pg hd y pc (ls, .int n :: st, hs) = if iI 0 ≤ n ∧ n ≤ iI 1000000 then t_Ev pg hd y npc (ls, .ref hs.2.1 :: st, t_al hs (t_arr0 kd n.toNatClampNeg) n.toNatClampNeg) else none := by
  by_cases hc : iI 0 ≤ n ∧ n ≤ iI 1000000
  · rw [if_pos hc]; exact ev_next (by rw [hp]; simp only [opNewA, if_pos hc])
  · rw [if_neg hc]; exact ev_none (by rw [hp]; simp only [opNewA, if_neg hc])
theorem st_len {r : Value} (hp : pg y pc = opLen npc) : t_Ev pg hd y pc (ls, r :: st, hs) = (aLen hs.1 r).bind fun x => t_Ev pg hd y npc (ls, .int x :: st, hs) := by
  cases h : aLen hs.1 r with
  | none => exact ev_none (by rw [hp]; simp only [opLen, h])
  | some x => exact ev_next (by rw [hp]; simp only [opLen, h])
theorem st_ai {k1 k2 : Nat} {r : Value} {i : Int32} (hp : pg y pc = opAI k1 k2 npc) : t_Ev pg hd y pc (ls, .int i :: r :: st, hs) = (ldI hs.1 r i k1 k2).bind fun x => t_Ev pg hd y npc (ls, .int x :: st, hs) := by
  cases h : ldI hs.1 r i k1 k2 with
  | none => exact ev_none (by rw [hp]; simp only [opAI, h])
  | some x => exact ev_next (by rw [hp]; simp only [opAI, h])
theorem st_aln {r : Value} {i : Int32} (hp : pg y pc = opALn npc) : t_Ev pg hd y pc (ls, .int i :: r :: st, hs) = (ldL hs.1 r i).bind fun x => t_Ev pg hd y npc (ls, .long x :: st, hs) := by
  cases h : ldL hs.1 r i with
  | none => exact ev_none (by rw [hp]; simp only [opALn, h])
  | some x => exact ev_next (by rw [hp]; simp only [opALn, h])
theorem st_ar {r : Value} {i : Int32} (hp : pg y pc = opAR npc) : t_Ev pg hd y pc (ls, .int i :: r :: st, hs) = (ldR hs.1 r i).bind fun x => t_Ev pg hd y npc (ls, va_rf x :: st, hs) := by
  cases h : ldR hs.1 r i with
  | none => exact ev_none (by rw [hp]; simp only [opAR, h])
  | some x => exact ev_next (by rw [hp]; simp only [opAR, h])
theorem st_si {k1 k2 : Nat} {r : Value} {i x : Int32} (hp : pg y pc = opSI k1 k2 npc) : t_Ev pg hd y pc (ls, .int x :: .int i :: r :: st, hs) = (stI hs.1 r i k1 k2 x).bind fun h => t_Ev pg hd y npc (ls, st, h, hs.2) := by
  cases h : stI hs.1 r i k1 k2 x with
  | none => exact ev_none (by rw [hp]; simp only [opSI, h])
  | some x => exact ev_next (by rw [hp]; simp only [opSI, h])
theorem st_sl {r : Value} {i : Int32} {x : Int64} (hp : pg y pc = opSL npc) : t_Ev pg hd y pc (ls, .long x :: .int i :: r :: st, hs) = (stL hs.1 r i x).bind fun h => t_Ev pg hd y npc (ls, st, h, hs.2) := by
  cases h : stL hs.1 r i x with
  | none => exact ev_none (by rw [hp]; simp only [opSL, h])
  | some x => exact ev_next (by rw [hp]; simp only [opSL, h])
theorem st_sr {kd c : Nat} {r v : Value} {i : Int32} (hp : pg y pc = opSR kd c npc) : t_Ev pg hd y pc (ls, v :: .int i :: r :: st, hs) = (stR hs.1 r i kd c v).bind fun h => t_Ev pg hd y npc (ls, st, h, hs.2) := by
  cases h : stR hs.1 r i kd c v with
  | none => exact ev_none (by rw [hp]; simp only [opSR, h])
  | some x => exact ev_next (by rw [hp]; simp only [opSR, h])
theorem st_cast {c : Nat} {v : Value} (hp : pg y pc = opCast c npc) : t_Ev pg hd y pc (ls, v :: st, hs) = (t_isK hs.1 v c).bind fun o => t_Ev pg hd y npc (ls, va_rf o :: st, hs) := by
  cases h : t_isK hs.1 v c with
  | none => exact ev_none (by rw [hp]; simp only [opCast, h])
  | some x => exact ev_next (by rw [hp]; simp only [opCast, h])
/-- an array of the kind kd -/
def t_kA (h : tAH) (v : Value) (kd : Nat) : Option Nat := match v with
  | .ref a => match h a with
    | some (_, k, .inr _) => if k = kd then some a else none
    | _ => none
  | _ => none
theorem st_casta {kd : Nat} {v : Value} (hp : pg y pc = opCastA kd npc) : t_Ev pg hd y pc (ls, v :: st, hs) = (t_kA hs.1 v kd).bind fun a => t_Ev pg hd y npc (ls, .ref a :: st, hs) := by
  cases v with
  | ref a =>
    rcases h : hs.1 a with _ | ⟨b, k, x | x⟩
    · simp only [t_kA, h]; exact ev_none (by rw [hp]; simp only [opCastA, h])
    · simp only [t_kA, h]; exact ev_none (by rw [hp]; simp only [opCastA, h])
    · by_cases hk : k = kd
      · simp only [t_kA, h, if_pos hk]; exact ev_next (by rw [hp]; simp only [opCastA, h, if_pos hk])
      · simp only [t_kA, h, if_neg hk]; exact ev_none (by rw [hp]; simp only [opCastA, h, if_neg hk])
  | _ => exact ev_none (by rw [hp]; rfl)
theorem st_inst {c : Nat} {v : Value} (hp : pg y pc = opInst c npc) : t_Ev pg hd y pc (ls, v :: st, hs) = (t_kN hs.1 v c).bind fun _ => t_Ev pg hd y npc (ls, .int (iI 1) :: st, hs) := by
  cases v with
  | ref a =>
    rcases h : hs.1 a with _ | ⟨b, k, x | x⟩
    · simp only [t_kN, h]; exact ev_none (by rw [hp]; simp only [opInst, h])
    · by_cases hk : k = c
      · simp only [t_kN, h, if_pos hk]; exact ev_next (by rw [hp]; simp only [opInst, h, if_pos hk])
      · simp only [t_kN, h, if_neg hk]; exact ev_none (by rw [hp]; simp only [opInst, h, if_neg hk])
    · simp only [t_kN, h]; exact ev_none (by rw [hp]; simp only [opInst, h])
  | _ => exact ev_none (by rw [hp]; rfl)
/-- an exception -/
def t_obj (h : tAH) (v : Value) : Option Nat := match v with
  | .ref a => match h a with
    | some (_, k, .inl _) => if 13 ≤ k ∧ k ≤ 17 then some a else none
    | _ => none
  | _ => none
theorem st_throw {v : Value} (hp : pg y pc = opThrow) : t_Ev pg hd y pc (ls, v :: st, hs) = (t_obj hs.1 v).bind fun a => t_thr pg hd y pc ls a hs := by
  cases v with
  | ref a =>
    rcases h : hs.1 a with _ | ⟨b, k, x | x⟩
    · simp only [t_obj, h]; exact ev_none (by rw [hp]; simp only [opThrow, h])
    · by_cases hk : 13 ≤ k ∧ k ≤ 17
      · simp only [t_obj, h, if_pos hk]; exact ev_throw (by rw [hp]; simp only [opThrow, h, if_pos hk])
      · simp only [t_obj, h, if_neg hk]; exact ev_none (by rw [hp]; simp only [opThrow, h, if_neg hk])
    · simp only [t_obj, h]; exact ev_none (by rw [hp]; simp only [opThrow, h])
  | _ => exact ev_none (by rw [hp]; rfl)
theorem st_retv (hp : pg y pc = opRetV) : t_Ev pg hd y pc (ls, [], hs) = some (.inl none, hs) := ev_ret (by rw [hp]; rfl)
theorem st_reti0 {x : Int32} (hp : pg y pc = opRetI 0) : t_Ev pg hd y pc (ls, [.int x], hs) = some (.inl (some (.int x)), hs) := ev_ret (by rw [hp]; rfl)
theorem st_reti {c : Nat} {x : Int32} (hp : pg y pc = opRetI c) : t_Ev pg hd y pc (ls, [.int x], hs) = if t_okR c x = true then some (.inl (some (.int x)), hs) else none := by
  by_cases hc : t_okR c x = true
  · rw [if_pos hc]; exact ev_ret (by rw [hp]; simp only [opRetI, if_pos hc])
  · rw [if_neg hc]; exact ev_none (by rw [hp]; simp only [opRetI, if_neg hc])
theorem st_retr (o : Option Nat) (hp : pg y pc = opRetR) : t_Ev pg hd y pc (ls, [va_rf o], hs) = some (.inl (some (va_rf o)), hs) := by
  cases o with
  | none => exact ev_ret (by rw [hp]; rfl)
  | some a => exact ev_ret (by rw [hp]; rfl)
theorem st_retf {x : UInt32} (hp : pg y pc = opRetF) : t_Ev pg hd y pc (ls, [.float x], hs) = some (.inl (some (.float x)), hs) := ev_ret (by rw [hp]; rfl)
theorem st_retd {x : UInt64} (hp : pg y pc = opRetD) : t_Ev pg hd y pc (ls, [.double x], hs) = some (.inl (some (.double x)), hs) := ev_ret (by rw [hp]; rfl)
theorem st_cs {y' n k tag : Nat} {sta as : List Value} {l0 : tLs} (hp : pg y pc = opCS y' n k tag npc) (hy : y' < y) (hn : sta.length = n) (ha : sta.reverse = as) (h0 : t_l0 as k = l0) (h1 : sta.all t_c1 = true) (h2 : t_rm st = true) :
    t_Ev pg hd y pc (ls, sta ++ st, hs) = t_bnd (t_Ev pg hd y' 0 (l0, [], hs)) tag (fun l hs' => t_Ev pg hd y npc (ls, l ++ st, hs')) (fun a hs' => t_thr pg hd y pc ls a hs') := by
  subst hn; subst ha; subst h0
  exact ev_call (by rw [hp]; simp only [opCS, List.length_append, Nat.le_add_right, List.take_left, List.drop_left, h1, h2, true_and, if_true]) hy
theorem st_cv {c y' n k tag : Nat} {sta as : List Value} {r : Value} (hp : pg y pc = opCV c y' n k tag npc) (hy : y' < y) (hn : sta.length = n) (ha : sta.reverse = as) (h1 : sta.all t_c1 = true) (h2 : t_rm st = true) :
    t_Ev pg hd y pc (ls, sta ++ (r :: st), hs) = (t_kN hs.1 r c).bind fun a => t_bnd (t_Ev pg hd y' 0 (t_l0 (.ref a :: as) k, [], hs)) tag (fun l hs' => t_Ev pg hd y npc (ls, l ++ st, hs')) (fun a hs' => t_thr pg hd y pc ls a hs') := by
  subst hn; subst ha
  cases h : t_kN hs.1 r c with
  | none => exact ev_none (by rw [hp]; simp only [opCV, List.drop_left, h])
  | some a => exact ev_call (by rw [hp]; simp only [opCV, List.drop_left, List.take_left, h, h1, h2, and_self, if_true]) hy
theorem st_ci {y' n k a : Nat} {sta as : List Value} {l0 : tLs} (hp : pg y pc = opCI y' n k npc) (hy : y' < y) (hn : sta.length = n) (ha : sta.reverse = as) (h0 : t_l0 (.ref a :: as) k = l0) (h1 : sta.all t_c1 = true) (h2 : t_rm st = true) :
    t_Ev pg hd y pc (ls, sta ++ (.ref a :: st), hs) = t_bnd (t_Ev pg hd y' 0 (l0, [], hs)) 0 (fun l hs' => t_Ev pg hd y npc (ls, l ++ st, hs')) (fun a hs' => t_thr pg hd y pc ls a hs') := by
  subst hn; subst ha; subst h0
  exact ev_call (by rw [hp]; simp only [opCI, List.drop_left, List.take_left, h1, h2, and_self, if_true]) hy
theorem st_oi {a : Nat} (hp : pg y pc = opOI npc) (h2 : t_rm st = true) : t_Ev pg hd y pc (ls, .ref a :: st, hs) = t_Ev pg hd y npc (ls, st, hs) := ev_next (by rw [hp]; simp only [opOI, h2, if_true])
theorem st_cpa {r1 r2 : Value} {i1 i2 n : Int32} (hp : pg y pc = opCpA npc) (h2 : t_rm st = true) : t_Ev pg hd y pc (ls, .int n :: .int i2 :: r2 :: .int i1 :: r1 :: st, hs) = (cpA hs.1 r1 i1 r2 i2 n).bind fun h => t_Ev pg hd y npc (ls, st, h, hs.2) := by
  cases h : cpA hs.1 r1 i1 r2 i2 n with
  | none => exact ev_none (by rw [hp]; simp only [opCpA, h])
  | some x => exact ev_next (by rw [hp]; simp only [opCpA, h, h2, if_true])
theorem st_cpr {kd c : Nat} {r1 r2 : Value} {i1 i2 n : Int32} (hp : pg y pc = opCpR kd c npc) (h2 : t_rm st = true) : t_Ev pg hd y pc (ls, .int n :: .int i2 :: r2 :: .int i1 :: r1 :: st, hs) = (cpR hs.1 kd c r1 i1 r2 i2 n).bind fun h => t_Ev pg hd y npc (ls, st, h, hs.2) := by
  cases h : cpR hs.1 kd c r1 i1 r2 i2 n with
  | none => exact ev_none (by rw [hp]; simp only [opCpR, h])
  | some x => exact ev_next (by rw [hp]; simp only [opCpR, h, h2, if_true])
def t_esz (e : tEnt) : Nat := match e.2.2 with
  | .inr x => x.1
  | .inl _ => 0
theorem st_clone {kd : Nat} {r : Value} (hp : pg y pc = opClone kd npc) (h2 : t_rm st = true) : t_Ev pg hd y pc (ls, r :: st, hs) = (clR hs.1 r kd).bind fun e => t_Ev pg hd y npc (ls, .ref hs.2.1 :: st, t_al hs e (t_esz e)) := by
  cases h : clR hs.1 r kd with
  | none => exact ev_none (by rw [hp]; simp only [opClone, h])
  | some x => exact ev_next (by rw [hp]; simp only [opClone, h, h2, if_true]; rfl)
theorem st_cloneb {r : Value} (hp : pg y pc = opCloneB npc) (h2 : t_rm st = true) : t_Ev pg hd y pc (ls, r :: st, hs) = (clB hs.1 r).bind fun e => t_Ev pg hd y npc (ls, .ref hs.2.1 :: st, t_al hs e (t_esz e)) := by
  cases h : clB hs.1 r with
  | none => exact ev_none (by rw [hp]; simp only [opCloneB, h])
  | some x => exact ev_next (by rw [hp]; simp only [opCloneB, h, h2, if_true]; rfl)
theorem st_make {ci : Nat} (hp : pg y pc = opMake ci npc) (h2 : t_rm st = true) : t_Ev pg hd y pc (ls, st, hs) = t_Ev pg hd y npc (ls, .ref hs.2.1 :: st, t_al hs (true, ci, .inl []) 6) := ev_next (by rw [hp]; simp only [opMake, h2, if_true])
theorem st_lam {kd : Nat} {bs : List Bool} {sta as : List Value} (hp : pg y pc = opLam kd bs npc) (hn : sta.length = bs.length) (ha : sta.reverse = as) (h1 : t_tyl bs as = true) (h2 : t_rm st = true) : t_Ev pg hd y pc (ls, sta ++ st, hs) = t_Ev pg hd y npc (ls, .ref hs.2.1 :: st, t_al hs (true, kd, .inl as) bs.length) := by
  subst ha
  exact ev_next (by rw [hp]; simp only [opLam, ← hn, List.length_append, Nat.le_add_right, List.take_left, List.drop_left, h1, h2, true_and, if_true])
/-- a call of a lambda's object: what it stands for, and its own values, by t_fn -/
theorem st_fn {ps : List (Nat × Nat × Nat × Nat × Nat)} {n tag : Nat} {sta as : List Value} {r : Value} (hp : pg y pc = opFn ps n tag npc) (hn : sta.length = n) (ha : sta.reverse = as) (hy : ∀ q ∈ ps, q.2.1 < y) (h1 : sta.all t_ref = true) (h2 : t_rm st = true) :
    t_Ev pg hd y pc (ls, sta ++ (r :: st), hs) = (t_fn hs.1 r ps).bind fun q => t_bnd (t_Ev pg hd q.1 0 (t_l0 (q.2.2 ++ as) q.2.1, [], hs)) tag (fun l hs' => t_Ev pg hd y npc (ls, l ++ st, hs')) (fun a hs' => t_thr pg hd y pc ls a hs') := by
  subst hn; subst ha
  cases h : t_fn hs.1 r ps with
  | none => exact ev_none (by rw [hp]; simp only [opFn, List.drop_left, h])
  | some q =>
    refine ev_call (by rw [hp]; simp only [opFn, List.drop_left, List.take_left, h, h1, h2, and_self, if_true]) ?_
    unfold t_fn at h
    cases r with
    | ref a =>
      dsimp only at h
      rcases hh : hs.1 a with _ | ⟨b, c, x | x⟩
      · rw [hh] at h; cases h
      · rw [hh] at h
        dsimp only at h
        split at h
        · cases hf : ps.find? (fun q => q.1 == c) with
          | none => rw [hf] at h; cases h
          | some q' =>
            rw [hf] at h
            dsimp only at h
            split at h
            · cases h
              exact hy q' (List.mem_of_find?_eq_some hf)
            · cases h
        · cases h
      · rw [hh] at h; cases h
    | _ => cases h
theorem st_sup {ci n : Nat} {sta : List Value} {r : Value} (hp : pg y pc = opSup ci n npc) (hn : sta.length = n) (h1 : sta.all t_ref = true) (h2 : t_rm st = true) : t_Ev pg hd y pc (ls, sta ++ (r :: st), hs) = (t_kM hs.1 r ci).bind fun _ => t_Ev pg hd y npc (ls, st, hs) := by
  subst hn
  cases h : t_kM hs.1 r ci with
  | none => exact ev_none (by rw [hp]; simp only [opSup, List.drop_left, h])
  | some a => exact ev_next (by rw [hp]; simp only [opSup, List.drop_left, List.take_left, h, h1, h2, and_self, if_true])
theorem st_newa' {kd N : Nat} {n : Int32} (hp : pg y pc = opNewA kd npc) (hc : iI 0 ≤ n ∧ n ≤ iI 1000000) (hN : n.toNatClampNeg = N) : t_Ev pg hd y pc (ls, .int n :: st, hs) = t_Ev pg hd y npc (ls, .ref hs.2.1 :: st, t_al hs (t_arr0 kd N) N) := by
  subst hN
  rw [st_newa hp, if_pos hc]
end ST
/-- nothing is caught -/
def tX : Nat → tHS → Option tRS := fun a hs => some (.inr a, hs)
theorem t_if {α : Type} {c : Prop} [Decidable c] {A A' B B' : α} (hA : A = A') (hB : B = B') : (if c then A else B) = if c then A' else B' := by rw [hA, hB]
theorem t_bo {α β : Type} {o : Option α} {f g : α → Option β} (h : ∀ x, f x = g x) : o.bind f = o.bind g := by rw [show f = g from funext h]
theorem t_bV {o : Option tRS} {K K' : tHS → Option tRS} {X X' : Nat → tHS → Option tRS} (hK : ∀ hs, K hs = K' hs) (hX : X = X') : bndV o K X = bndV o K' X' := by rw [show K = K' from funext hK, hX]
theorem t_bI {o : Option tRS} {K K' : Int32 → tHS → Option tRS} {X X' : Nat → tHS → Option tRS} (hK : ∀ x hs, K x hs = K' x hs) (hX : X = X') : bndI o K X = bndI o K' X' := by rw [show K = K' from funext fun x => funext fun hs => hK x hs, hX]
theorem t_bR {o : Option tRS} {K K' : Option Nat → tHS → Option tRS} {X X' : Nat → tHS → Option tRS} (hK : ∀ x hs, K x hs = K' x hs) (hX : X = X') : bndR o K X = bndR o K' X' := by rw [show K = K' from funext fun x => funext fun hs => hK x hs, hX]
theorem t_bF {o : Option tRS} {K K' : UInt32 → tHS → Option tRS} {X X' : Nat → tHS → Option tRS} (hK : ∀ x hs, K x hs = K' x hs) (hX : X = X') : bndF o K X = bndF o K' X' := by rw [show K = K' from funext fun x => funext fun hs => hK x hs, hX]
theorem t_bD {o : Option tRS} {K K' : UInt64 → tHS → Option tRS} {X X' : Nat → tHS → Option tRS} (hK : ∀ x hs, K x hs = K' x hs) (hX : X = X') : bndD o K X = bndD o K' X' := by rw [show K = K' from funext fun x => funext fun hs => hK x hs, hX]
/-- a table of instructions by their pc -/
def t_lk : List (Nat × tOp) → Nat → tOp
  | [], _ => opStuck
  | q :: l, pc => bif Nat.beq q.1 pc then q.2 else t_lk l pc
