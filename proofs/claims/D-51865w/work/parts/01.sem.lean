/-! ===== the pure machine: a heap as a partial function, one step a function, a run by fuel ===== -/
/-- mutable?, kind, content -/
abbrev tEnt : Type := Bool × Nat × (List Value ⊕ vp_A)
abbrev tAH : Type := Nat → Option tEnt
/-- heap, its size, the slots made so far -/
abbrev tHS : Type := tAH × Nat × Nat
abbrev tLs : Type := List (Option Value)
/-- locals, operand stack, heap -/
abbrev tFS : Type := tLs × List Value × tHS
/-- a method's end: its answer, or the address of what it threw -/
abbrev tRS : Type := (Option Value ⊕ Nat) × tHS
/-- a call: callee, its arguments, how many more locals it has; the answer's tag, the next pc, the caller's locals and stack, the heap -/
abbrev tCall : Type := Nat × (List Value × Nat) × Nat × Nat × tLs × List Value × tHS
abbrev tSR : Type := Option ((Nat × tFS) ⊕ ((Option Value × tHS) ⊕ ((Nat × tHS) ⊕ tCall)))
abbrev tOp : Type := tFS → tSR
/-- where a throw of an object of this kind goes: none: not known; some none: to the caller; some (some pc): the handler -/
abbrev tHd : Type := Nat → Nat → Nat → Option (Option Nat)
def srN (pc : Nat) (ls : tLs) (st : List Value) (hs : tHS) : tSR := some (.inl (pc, ls, st, hs))
def srR (v : Option Value) (hs : tHS) : tSR := some (.inr (.inl (v, hs)))
def srT (a : Nat) (hs : tHS) : tSR := some (.inr (.inr (.inl (a, hs))))
def srC (y : Nat) (as : List Value) (k tag npc : Nat) (ls : tLs) (st : List Value) (hs : tHS) : tSR := some (.inr (.inr (.inr (y, (as, k), tag, npc, ls, st, hs))))
/-- a method's locals at its start -/
def t_l0 (as : List Value) (k : Nat) : tLs := as.map some ++ List.replicate k none
/-- what an answer pushes: 0 nothing, 1 an int, 2 a reference, 3 a float, 4 a double -/
def t_ret (tag : Nat) (v : Option Value) : Option (List Value) := match v with
  | none => if tag = 0 then some [] else none
  | some (.int x) => if tag = 1 then some [.int x] else none
  | some .null => if tag = 2 then some [.null] else none
  | some (.ref a) => if tag = 2 then some [.ref a] else none
  | some (.float x) => if tag = 3 then some [.float x] else none
  | some (.double x) => if tag = 4 then some [.double x] else none
  | _ => none
def t_kind (h : tAH) (a : Nat) : Nat := match h a with
  | some (_, k, _) => k
  | none => 0
def t_ex (pg : Nat → Nat → tOp) (hd : tHd) : Nat → Nat → Nat → tFS → Option tRS
  | 0, _, _, _ => none
  | n + 1, y, pc, fs => match pg y pc fs with
    | none => none
    | some (.inl q) => t_ex pg hd n y q.1 q.2
    | some (.inr (.inl q)) => some (.inl q.1, q.2)
    | some (.inr (.inr (.inl q))) => match hd y pc (t_kind q.2.1 q.1) with
      | none => none
      | some none => some (.inr q.1, q.2)
      | some (some pc') => t_ex pg hd n y pc' (fs.1, [.ref q.1], q.2)
    | some (.inr (.inr (.inr q))) => if q.1 < y then match t_ex pg hd n q.1 0 (t_l0 q.2.1.1 q.2.1.2, [], q.2.2.2.2.2.2) with
        | none => none
        | some (.inl v, hs') => match t_ret q.2.2.1 v with
          | none => none
          | some l => t_ex pg hd n y q.2.2.2.1 (q.2.2.2.2.1, l ++ q.2.2.2.2.2.1, hs')
        | some (.inr a, hs') => match hd y pc (t_kind hs'.1 a) with
          | none => none
          | some none => some (.inr a, hs')
          | some (some pc') => t_ex pg hd n y pc' (q.2.2.2.2.1, [.ref a], hs')
      else none
theorem t_ex_mono {pg : Nat → Nat → tOp} {hd : tHd} : ∀ {n y pc : Nat} {fs : tFS} {r : tRS}, t_ex pg hd n y pc fs = some r → t_ex pg hd (n + 1) y pc fs = some r := by
  intro n
  induction n with
  | zero => intro y pc fs r h; cases h
  | succ n ih =>
    intro y pc fs r h
    rw [t_ex] at h
    rw [t_ex]
    cases hp : pg y pc fs with
    | none => rw [hp] at h; exact h
    | some q =>
      rw [hp] at h
      rcases q with q | q | q | q
      · exact ih h
      · exact h
      · dsimp only at h ⊢
        rcases hh : hd y pc (t_kind q.2.1 q.1) with _ | _ | pc'
        · rw [hh] at h; exact h
        · rw [hh] at h; exact h
        · rw [hh] at h; exact ih h
      · dsimp only at h ⊢
        by_cases hlt : q.1 < y
        · rw [if_pos hlt] at h ⊢
          cases hc : t_ex pg hd n q.1 0 (t_l0 q.2.1.1 q.2.1.2, [], q.2.2.2.2.2.2) with
          | none => rw [hc] at h; cases h
          | some c =>
            rw [hc] at h
            rw [ih hc]
            obtain ⟨o, hs'⟩ := c
            cases o with
            | inl v =>
              dsimp only at h ⊢
              cases ht : t_ret q.2.2.1 v with
              | none => rw [ht] at h; cases h
              | some l => rw [ht] at h; exact ih h
            | inr a =>
              dsimp only at h ⊢
              rcases hh : hd y pc (t_kind hs'.1 a) with _ | _ | pc'
              · rw [hh] at h; exact h
              · rw [hh] at h; exact h
              · rw [hh] at h; exact ih h
        · rw [if_neg hlt] at h; cases h
theorem t_ex_le {pg : Nat → Nat → tOp} {hd : tHd} {n k y pc : Nat} {fs : tFS} {r : tRS} (hk : n ≤ k) (h : t_ex pg hd n y pc fs = some r) : t_ex pg hd k y pc fs = some r := by
  induction hk with
  | refl => exact h
  | step _ ih => exact t_ex_mono ih
theorem t_ex_det {pg : Nat → Nat → tOp} {hd : tHd} {n k y pc : Nat} {fs : tFS} {r r' : tRS} (h : t_ex pg hd n y pc fs = some r) (h' : t_ex pg hd k y pc fs = some r') : r = r' := by
  rcases Nat.le_total n k with q | q
  · exact Option.some.inj ((t_ex_le q h).symm.trans h')
  · exact Option.some.inj (h.symm.trans (t_ex_le q h'))
/-- the run's result, if it ends -/
noncomputable def t_Ev (pg : Nat → Nat → tOp) (hd : tHd) (y pc : Nat) (fs : tFS) : Option tRS :=
  @dite _ (∃ r n, t_ex pg hd n y pc fs = some r) (Classical.propDecidable _) (fun h => some (Classical.choose h)) (fun _ => none)
theorem t_Ev_some {pg : Nat → Nat → tOp} {hd : tHd} {y pc : Nat} {fs : tFS} {r : tRS} : t_Ev pg hd y pc fs = some r ↔ ∃ n, t_ex pg hd n y pc fs = some r := by
  unfold t_Ev
  by_cases h : ∃ r n, t_ex pg hd n y pc fs = some r
  · rw [dif_pos h]
    obtain ⟨k, hk⟩ := Classical.choose_spec h
    constructor
    · intro e
      exact ⟨k, by rw [← Option.some.inj e]; exact hk⟩
    · rintro ⟨n, hn⟩
      rw [t_ex_det hn hk]
  · rw [dif_neg h]
    constructor
    · intro e; cases e
    · rintro ⟨n, hn⟩; exact absurd ⟨r, n, hn⟩ h
theorem t_Ev_of {pg : Nat → Nat → tOp} {hd : tHd} {y pc : Nat} {fs : tFS} {F : Option tRS} (h : ∀ r, (∃ n, t_ex pg hd n y pc fs = some r) ↔ F = some r) : t_Ev pg hd y pc fs = F := by
  cases hF : F with
  | some r => exact t_Ev_some.mpr ((h r).mpr hF)
  | none =>
    cases hE : t_Ev pg hd y pc fs with
    | none => rfl
    | some r =>
      have := (h r).mp (t_Ev_some.mp hE)
      rw [hF] at this; cases this
section EV
variable {pg : Nat → Nat → tOp} {hd : tHd} {y pc : Nat} {fs : tFS}
theorem ev_next {pc' : Nat} {ls' : tLs} {st' : List Value} {hs' : tHS} (h : pg y pc fs = srN pc' ls' st' hs') : t_Ev pg hd y pc fs = t_Ev pg hd y pc' (ls', st', hs') := by
  refine t_Ev_of fun r => ?_
  rw [t_Ev_some]
  constructor
  · rintro ⟨n, hn⟩
    cases n with
    | zero => cases hn
    | succ n => rw [t_ex, h] at hn; exact ⟨n, hn⟩
  · rintro ⟨n, hn⟩
    refine ⟨n + 1, ?_⟩
    rw [t_ex, h]
    exact hn
theorem ev_none (h : pg y pc fs = none) : t_Ev pg hd y pc fs = none := by
  refine t_Ev_of fun r => ?_
  constructor
  · rintro ⟨n, hn⟩
    cases n with
    | zero => cases hn
    | succ n => rw [t_ex, h] at hn; cases hn
  · intro e; cases e
theorem ev_ret {v : Option Value} {hs' : tHS} (h : pg y pc fs = srR v hs') : t_Ev pg hd y pc fs = some (.inl v, hs') := by
  refine t_Ev_some.mpr ⟨1, ?_⟩
  rw [t_ex, h]
  rfl
/-- what a throw in y at pc goes on with -/
noncomputable def t_thr (pg : Nat → Nat → tOp) (hd : tHd) (y pc : Nat) (ls : tLs) (a : Nat) (hs : tHS) : Option tRS := match hd y pc (t_kind hs.1 a) with
  | none => none
  | some none => some (.inr a, hs)
  | some (some pc') => t_Ev pg hd y pc' (ls, [.ref a], hs)
theorem ev_throw {a : Nat} {hs' : tHS} (h : pg y pc fs = srT a hs') : t_Ev pg hd y pc fs = t_thr pg hd y pc fs.1 a hs' := by
  unfold t_thr
  rcases hh : hd y pc (t_kind hs'.1 a) with _ | _ | pc'
  · refine t_Ev_of fun r => ?_
    constructor
    · rintro ⟨n, hn⟩
      cases n with
      | zero => cases hn
      | succ n =>
        rw [t_ex, h] at hn
        dsimp only [srT] at hn
        rw [hh] at hn
        cases hn
    · intro e; cases e
  · refine t_Ev_some.mpr ⟨1, ?_⟩
    rw [t_ex, h]
    dsimp only [srT]
    rw [hh]
  · dsimp only
    refine t_Ev_of fun r => ?_
    rw [t_Ev_some]
    constructor
    · rintro ⟨n, hn⟩
      cases n with
      | zero => cases hn
      | succ n =>
        rw [t_ex, h] at hn
        dsimp only [srT] at hn
        rw [hh] at hn
        exact ⟨n, hn⟩
    · rintro ⟨n, hn⟩
      refine ⟨n + 1, ?_⟩
      rw [t_ex, h]
      dsimp only [srT]
      rw [hh]
      exact hn
/-- behind a call -/
def t_bnd (o : Option tRS) (tag : Nat) (K : List Value → tHS → Option tRS) (X : Nat → tHS → Option tRS) : Option tRS := match o with
  | none => none
  | some (.inl v, hs') => match t_ret tag v with
    | none => none
    | some l => K l hs'
  | some (.inr a, hs') => X a hs'
theorem ev_call {y' k0 tag npc : Nat} {as : List Value} {ls : tLs} {st : List Value} {hs : tHS} (h : pg y pc fs = srC y' as k0 tag npc ls st hs) (hy : y' < y) :
    t_Ev pg hd y pc fs = t_bnd (t_Ev pg hd y' 0 (t_l0 as k0, [], hs)) tag (fun l hs' => t_Ev pg hd y npc (ls, l ++ st, hs')) (fun a hs' => t_thr pg hd y pc ls a hs') := by
  have unf : ∀ n, t_ex pg hd (n + 1) y pc fs = match t_ex pg hd n y' 0 (t_l0 as k0, [], hs) with
        | none => none
        | some (.inl v, hs') => match t_ret tag v with
          | none => none
          | some l => t_ex pg hd n y npc (ls, l ++ st, hs')
        | some (.inr a, hs') => match hd y pc (t_kind hs'.1 a) with
          | none => none
          | some none => some (.inr a, hs')
          | some (some pc') => t_ex pg hd n y pc' (ls, [.ref a], hs') := by
    intro n
    rw [t_ex, h]
    dsimp only [srC]
    rw [if_pos hy]
  refine t_Ev_of fun r => ?_
  constructor
  · rintro ⟨n, hn⟩
    cases n with
    | zero => cases hn
    | succ n =>
      rw [unf] at hn
      cases hc : t_ex pg hd n y' 0 (t_l0 as k0, [], hs) with
      | none => rw [hc] at hn; cases hn
      | some c =>
        rw [hc] at hn
        rw [t_Ev_some.mpr ⟨n, hc⟩]
        obtain ⟨o, hs'⟩ := c
        cases o with
        | inl v =>
          dsimp only [t_bnd] at hn ⊢
          cases ht : t_ret tag v with
          | none => rw [ht] at hn; cases hn
          | some l => rw [ht] at hn; exact t_Ev_some.mpr ⟨n, hn⟩
        | inr a =>
          dsimp only [t_bnd, t_thr] at hn ⊢
          rcases hh : hd y pc (t_kind hs'.1 a) with _ | _ | pc'
          · rw [hh] at hn; exact hn
          · rw [hh] at hn; exact hn
          · rw [hh] at hn; exact t_Ev_some.mpr ⟨n, hn⟩
  · intro e
    cases hc : t_Ev pg hd y' 0 (t_l0 as k0, [], hs) with
    | none => rw [hc] at e; cases e
    | some c =>
      rw [hc] at e
      obtain ⟨n, hn⟩ := t_Ev_some.mp hc
      obtain ⟨o, hs'⟩ := c
      cases o with
      | inl v =>
        dsimp only [t_bnd] at e
        cases ht : t_ret tag v with
        | none => rw [ht] at e; cases e
        | some l =>
          rw [ht] at e
          obtain ⟨k, hk⟩ := t_Ev_some.mp e
          refine ⟨n + k + 1, ?_⟩
          rw [unf, t_ex_le (Nat.le_add_right n k) hn]
          dsimp only
          rw [ht]
          exact t_ex_le (Nat.le_add_left k n) hk
      | inr a =>
        dsimp only [t_bnd, t_thr] at e
        rcases hh : hd y pc (t_kind hs'.1 a) with _ | _ | pc'
        · rw [hh] at e; cases e
        · rw [hh] at e
          refine ⟨n + 1, ?_⟩
          rw [unf, hn]
          dsimp only
          rw [hh]
          exact e
        · rw [hh] at e
          obtain ⟨k, hk⟩ := t_Ev_some.mp e
          refine ⟨n + k + 1, ?_⟩
          rw [unf, t_ex_le (Nat.le_add_right n k) hn]
          dsimp only
          rw [hh]
          exact t_ex_le (Nat.le_add_left k n) hk
end EV
/-! typed answers -/
def bndV (o : Option tRS) (K : tHS → Option tRS) (X : Nat → tHS → Option tRS) : Option tRS := match o with
  | some (.inl none, hs') => K hs'
  | some (.inr a, hs') => X a hs'
  | _ => none
def bndI (o : Option tRS) (K : Int32 → tHS → Option tRS) (X : Nat → tHS → Option tRS) : Option tRS := match o with
  | some (.inl (some (.int x)), hs') => K x hs'
  | some (.inr a, hs') => X a hs'
  | _ => none
def bndR (o : Option tRS) (K : Option Nat → tHS → Option tRS) (X : Nat → tHS → Option tRS) : Option tRS := match o with
  | some (.inl (some .null), hs') => K none hs'
  | some (.inl (some (.ref a)), hs') => K (some a) hs'
  | some (.inr a, hs') => X a hs'
  | _ => none
def bndF (o : Option tRS) (K : UInt32 → tHS → Option tRS) (X : Nat → tHS → Option tRS) : Option tRS := match o with
  | some (.inl (some (.float x)), hs') => K x hs'
  | some (.inr a, hs') => X a hs'
  | _ => none
def bndD (o : Option tRS) (K : UInt64 → tHS → Option tRS) (X : Nat → tHS → Option tRS) : Option tRS := match o with
  | some (.inl (some (.double x)), hs') => K x hs'
  | some (.inr a, hs') => X a hs'
  | _ => none
theorem t_bnd_V {o : Option tRS} {K : List Value → tHS → Option tRS} {X : Nat → tHS → Option tRS} : t_bnd o 0 K X = bndV o (fun hs' => K [] hs') X := by
  rcases o with _ | ⟨v | a, hs'⟩
  · rfl
  · rcases v with _ | v
    · rfl
    · cases v <;> rfl
  · rfl
theorem t_bnd_I {o : Option tRS} {K : List Value → tHS → Option tRS} {X : Nat → tHS → Option tRS} : t_bnd o 1 K X = bndI o (fun x hs' => K [.int x] hs') X := by
  rcases o with _ | ⟨v | a, hs'⟩
  · rfl
  · rcases v with _ | v
    · rfl
    · cases v <;> rfl
  · rfl
theorem t_bnd_R {o : Option tRS} {K : List Value → tHS → Option tRS} {X : Nat → tHS → Option tRS} : t_bnd o 2 K X = bndR o (fun x hs' => K [va_rf x] hs') X := by
  rcases o with _ | ⟨v | a, hs'⟩
  · rfl
  · rcases v with _ | v
    · rfl
    · cases v <;> rfl
  · rfl
theorem t_bnd_F {o : Option tRS} {K : List Value → tHS → Option tRS} {X : Nat → tHS → Option tRS} : t_bnd o 3 K X = bndF o (fun x hs' => K [.float x] hs') X := by
  rcases o with _ | ⟨v | a, hs'⟩
  · rfl
  · rcases v with _ | v
    · rfl
    · cases v <;> rfl
  · rfl
theorem t_bnd_D {o : Option tRS} {K : List Value → tHS → Option tRS} {X : Nat → tHS → Option tRS} : t_bnd o 4 K X = bndD o (fun x hs' => K [.double x] hs') X := by
  rcases o with _ | ⟨v | a, hs'⟩
  · rfl
  · rcases v with _ | v
    · rfl
    · cases v <;> rfl
  · rfl
theorem bndV_ret {K : tHS → Option tRS} {X : Nat → tHS → Option tRS} {hs : tHS} : bndV (some (.inl none, hs)) K X = K hs := rfl
theorem bndI_ret {K : Int32 → tHS → Option tRS} {X : Nat → tHS → Option tRS} {hs : tHS} {x : Int32} : bndI (some (.inl (some (.int x)), hs)) K X = K x hs := rfl
theorem bndR_ret {K : Option Nat → tHS → Option tRS} {X : Nat → tHS → Option tRS} {hs : tHS} {a : Nat} : bndR (some (.inl (some (.ref a)), hs)) K X = K (some a) hs := rfl
theorem bndR_null {K : Option Nat → tHS → Option tRS} {X : Nat → tHS → Option tRS} {hs : tHS} : bndR (some (.inl (some .null), hs)) K X = K none hs := rfl
theorem bndR_rf {K : Option Nat → tHS → Option tRS} {X : Nat → tHS → Option tRS} {hs : tHS} {o : Option Nat} : bndR (some (.inl (some (va_rf o)), hs)) K X = K o hs := by cases o <;> rfl
theorem bndF_ret {K : UInt32 → tHS → Option tRS} {X : Nat → tHS → Option tRS} {hs : tHS} {x : UInt32} : bndF (some (.inl (some (.float x)), hs)) K X = K x hs := rfl
theorem bndD_ret {K : UInt64 → tHS → Option tRS} {X : Nat → tHS → Option tRS} {hs : tHS} {x : UInt64} : bndD (some (.inl (some (.double x)), hs)) K X = K x hs := rfl
theorem bndV_thr {K : tHS → Option tRS} {X : Nat → tHS → Option tRS} {hs : tHS} {a : Nat} : bndV (some (.inr a, hs)) K X = X a hs := rfl
theorem bndI_thr {K : Int32 → tHS → Option tRS} {X : Nat → tHS → Option tRS} {hs : tHS} {a : Nat} : bndI (some (.inr a, hs)) K X = X a hs := rfl
theorem bndR_thr {K : Option Nat → tHS → Option tRS} {X : Nat → tHS → Option tRS} {hs : tHS} {a : Nat} : bndR (some (.inr a, hs)) K X = X a hs := rfl
