/-! ===== the component's parser: the next token ===== -/
def cKd (k : Int) : Int := if k = 1 then 0 else if k = 2 then 1 else if k = 3 then 2 else 3
/-- a parser's error, thrown -/
def PErr (c : Int) (o z : Nat) (r : Option tRS) (hs' : tHS) : Prop := ∃ e, r = some (.inr e, hs') ∧ z ≤ e ∧ hs'.1 e = some (true, 13, .inl [.int (iI c), .int (iI (o : Int))])
/-- the present token is the one that starts at p; words made at or behind z -/
def TKc (h : tAH) (u xa : Nat) (tv : Value) (inp : Nat → Int) (n p z : Nat) : Prop := ∃ va w, h u = some (pcl tv (tkT inp n p) (tkF inp n p) (cKd (tkK inp n p)) va w xa) ∧ (tkK inp n p = 2 → va = min 1000 (tkV inp n p)) ∧ (tkK inp n p = 1 → FW h w (tkT inp n p - tkF inp n p) z (fun j => inp (tkF inp n p + j)))
theorem t_up_id {h : tAH} {a : Nat} {e : tEnt} (he : h a = some e) : t_up h a e = h := by
  funext q
  by_cases c : q = a
  · rw [c, t_up_s, he]
  · exact t_up_n c
section ADV
variable {G : tG} {hs : tHS} {u xa ia n : Nat} {inp : Nat → Int} {tv : Value} {st kd va : Int} {w : Nat}
theorem c_throw {c : Int} (hF : Fi hs) {tv : Value} {pos kd va : Int} {o : Nat} (hu : hs.1 u = some (pcl tv pos o kd va w xa)) : ∃ hs', PErr c o hs.2.1 (bndR (t_Ev (t_pg G) t_hd Y_X6_error 0 ([some (.ref u), some (.int (iI c))], [], hs)) (fun o_3 hs_2 => (t_obj hs_2.1 (va_rf o_3)).bind fun a_4 => some (.inr a_4, hs_2)) tX) hs' ∧ Ex 1 8 hs hs' := by
  refine ⟨_, ⟨hs.2.1, ?_, Nat.le_refl _, t_up_s⟩, Ex.al hF⟩
  rw [bR_ex (c_error hF hu)]
  have ho : t_obj (t_al hs (true, 13, .inl [.int (iI c), .int (iI (o : Int))]) 8).1 (va_rf (some hs.2.1)) = some hs.2.1 := by
    simp only [va_rf_some, t_obj, al_1, t_up_s]
    exact if_pos (by decide)
  rw [ho]
  rfl
theorem c_advance {p : Nat} (hF : Fi hs) (hI : IB inp) (hn : n ≤ 600) (hp : p ≤ n) (hu : hs.1 u = some (pcl tv p st kd va w xa)) (c : CI hs.1 xa ia inp n) : ∃ hs', Mx (fun q => q = u) (16 * (tkT inp n p - p)) (100 * (tkT inp n p - p)) hs hs' ∧
    if tkK inp n p = 4 then PErr 1 (tkF inp n p) hs.2.1 (t_Ev (t_pg G) t_hd Y_X6_advance 0 ([some (.ref u), none], [], hs)) hs' else t_Ev (t_pg G) t_hd Y_X6_advance 0 ([some (.ref u), none], [], hs) = rV hs' ∧ TKc hs'.1 u xa tv inp n p hs.2.1 := by
  obtain ⟨h, z⟩ := hs
  dsimp only at hu c ⊢
  have ne := c.ne hu (by decide)
  have ci : ∀ e, CI (t_up h u e) xa ia inp n := fun e => c.cg (t_up_n ne.1) (t_up_n ne.2)
  have ul := hF.lt hu
  have fi : ∀ e, Mx (fun q => q = u) 0 0 (h, z) (t_up h u e, z) := fun e => Mx.up hF hu rfl
  have sp : ∀ (d p : Nat), n - p = d → p ≤ n → t_Ev (t_pg G) t_hd Y_X6_advance 0 ([some (.ref u), none], [], (t_up h u (pcl tv p st kd va w xa), z)) = t_Ev (t_pg G) t_hd Y_X6_advance 44 ([some (.ref u), none], [], (t_up h u (pcl tv (tkF inp n p) st kd va w xa), z)) := by
    intro d
    induction d with
    | zero =>
      intro p hd hp
      rw [show tkF inp n p = p by unfold tkF; rw [hd]; rfl, b_X6_advance_0, pc_1]
      simp (disch := omega) only [Option.bind_some, pc_6, va_rf_some, (ci _).len, iI_lt]
      rw [if_neg (by omega)]
    | succ d ih =>
      intro p hd hp
      have hb := hI p
      have sb := sgn_b hb
      obtain ⟨s0, -, -⟩ := sgn_lo hb (a := 32) (by decide)
      have hst := rn_step (q := isSp inp) (n := n) (p := p)
      rw [b_X6_advance_0, pc_1]
      simp (disch := omega) only [Option.bind_some, pc_6, pc_1, va_rf_some, (ci _).len, (ci _).arr, (ci _).ld (show p < n by omega) hn, iI_lt, iI_inj]
      rw [if_pos (by omega)]
      by_cases g : inp p = 32
      · rw [if_pos ⟨by omega, by unfold isSp; exact decide_eq_true g⟩] at hst
        rw [if_pos (s0.mpr g)]
        simp only [pp_1, Option.bind_some, iI_add]
        rw [show tkF inp n p = tkF inp n (p + 1) from hst]
        exact ih (p + 1) (by omega) (by omega)
      · rw [if_neg (fun q => g (by have := q.2; unfold isSp at this; exact of_decide_eq_true this))] at hst
        rw [if_neg (fun q => g (s0.mp q)), show tkF inp n p = p from hst]
  have hF1 := tkF_b (inp := inp) hp
  have hT := tkT_b (inp := inp) hp
  have e0 : t_Ev (t_pg G) t_hd Y_X6_advance 0 ([some (.ref u), none], [], (h, z)) = t_Ev (t_pg G) t_hd Y_X6_advance 44 ([some (.ref u), none], [], (t_up h u (pcl tv (tkF inp n p) st kd va w xa), z)) := by
    rw [← sp _ p rfl hp, t_up_id hu]
  rw [e0]
  obtain ⟨q, hq⟩ : ∃ q, q = tkF inp n p := ⟨_, rfl⟩
  have hqn : q ≤ n := by omega
  rw [← hq, b_X6_advance_44, pc_1]
  simp (maxSteps := 4000000) (disch := omega) only [Option.bind_some, pp_2, pc_1, pc_6, va_rf_some, (ci _).len, iI_inj]
  by_cases c0 : q = n
  · have hk : tkK inp n p = 0 := by unfold tkK; rw [if_pos (by omega)]
    have hT0 : tkT inp n p = q := by unfold tkT; rw [if_pos hk, hq]
    refine ⟨(t_up h u (pcl tv q q 3 va w xa), z), (fi _).le (by omega) (by omega), ?_⟩
    rw [if_neg (by omega), if_pos (by omega)]
    refine ⟨by simp (maxSteps := 4000000) only [pp_3, Option.bind_some]; rfl, va, w, ?_, fun x => by omega, fun x => by omega⟩
    rw [hT0, ← hq, hk]
    exact t_up_s
  have hb := hI q
  have sb := sgn_b hb
  obtain ⟨s59, -, -⟩ := sgn_lo hb (a := 59) (by decide)
  obtain ⟨-, s48, -⟩ := sgn_lo hb (a := 48) (by decide)
  obtain ⟨-, -, s57⟩ := sgn_lo hb (a := 57) (by decide)
  obtain ⟨-, s97, -⟩ := sgn_lo hb (a := 97) (by decide)
  obtain ⟨-, -, s122⟩ := sgn_lo hb (a := 122) (by decide)
  have hFn : tkF inp n p ≠ n := by omega
  have kk : tkK inp n p = if isLt inp q = true then 1 else if isDg inp q = true then 2 else if inp q = 59 then 3 else 4 := by unfold tkK; rw [if_neg hFn, hq]
  have gl : isLt inp q = true ↔ 97 ≤ inp q ∧ inp q ≤ 122 := isB_iff
  have gd : isDg inp q = true ↔ 48 ≤ inp q ∧ inp q ≤ 57 := isB_iff
  rw [if_neg (by omega)]
  simp (maxSteps := 4000000) (disch := omega) only [Option.bind_some, va_rf_some, (ci _).arr, (ci _).ld (show q < n by omega) hn, iI_inj]
  by_cases g59 : inp q = 59
  · have hk : tkK inp n p = 3 := by rw [kk, if_neg (fun x => by have := gl.mp x; omega), if_neg (fun x => by have := gd.mp x; omega), if_pos g59]
    have hT0 : tkT inp n p = q + 1 := by unfold tkT; rw [if_neg (by omega), if_neg (by omega), if_neg (by omega), hq]
    refine ⟨(t_up h u (pcl tv ((q + 1 : Nat) : Int) q 2 va w xa), z), (fi _).le (by omega) (by omega), ?_⟩
    rw [if_neg (by omega), if_pos (s59.mpr g59)]
    refine ⟨by simp (maxSteps := 4000000) only [pp_3, pp_1, pc_1, Option.bind_some, iI_add]; rfl, va, w, ?_, fun x => by omega, fun x => by omega⟩
    rw [hT0, ← hq, hk]
    exact t_up_s
  rw [if_neg (fun x => g59 (s59.mp x))]
  simp (maxSteps := 4000000) (disch := omega) only [iI_lt]
  by_cases gD : isDg inp q = true
  · have g := gd.mp gD
    have hk : tkK inp n p = 2 := by rw [kk, if_neg (fun x => by have := gl.mp x; omega), if_pos gD]
    have hT0 : tkT inp n p = rn (isDg inp) n (n - q) q := by unfold tkT; rw [if_neg (by omega), if_neg (by omega), if_pos hk, hq]
    refine ⟨(t_up h u (pcl tv (rn (isDg inp) n (n - q) q) q 1 (min 1000 (vl inp n (n - q) q 0)) w xa), z), (fi _).le (by omega) (by omega), ?_⟩
    rw [if_neg (by omega), if_neg (by omega), if_neg (by omega)]
    refine ⟨?_, min 1000 (vl inp n (n - q) q 0), w, ?_, fun _ => by unfold tkV; rw [hq], fun x => by omega⟩
    · simp (maxSteps := 4000000) only [pp_3, pc_k, Option.bind_some]
      rw [b_X6_readDigits_0]
      simp only [pp_4, Option.bind_some]
      have := c_digits (G := G) (h := h) (z := z) (st := (q : Int)) (kd := 1) (tv := tv) (w := w) hI hn ci (n - q) q 0 rfl hqn (by decide)
      rw [show min 1000 (0 : Int) = 0 from rfl] at this
      rw [this, bV_rV]
      rfl
    · rw [hT0, ← hq, hk]
      exact t_up_s
  have nD : ¬ (48 ≤ inp q ∧ inp q ≤ 57) := fun x => gD (gd.mpr x)
  have to133 : ∀ R : Option tRS, (if sgn (inp q) < 48 then R else if 57 < sgn (inp q) then R else bndV (t_Ev (t_pg G) t_hd Y_X6_readDigits 0 ([some (.ref u)], [], (h, z))) (fun hs_16 => some (.inl none, hs_16)) tX) = R := fun R => by
    by_cases x : sgn (inp q) < 48
    · rw [if_pos x]
    · rw [if_neg x, if_pos (by omega)]
  have sel : ∀ R Q : Option tRS, (if sgn (inp q) < 48 then R else if 57 < sgn (inp q) then R else Q) = R := fun R Q => by
    by_cases x : sgn (inp q) < 48
    · rw [if_pos x]
    · rw [if_neg x, if_pos (by omega)]
  rw [sel, b_X6_advance_133]
  simp (maxSteps := 4000000) (disch := omega) only [iI_lt]
  by_cases gL : isLt inp q = true
  · have g := gl.mp gL
    have hk : tkK inp n p = 1 := by rw [kk, if_pos gL]
    have hT0 : tkT inp n p = rn (isLt inp) n (n - q) q := by unfold tkT; rw [if_neg (by omega), if_pos hk, hq]
    have hTq : q + 1 ≤ tkT inp n p := by have := hT.2.2 (by omega); omega
    obtain ⟨h1, w1, e1, m1, u1, f1⟩ := c_letters (G := G) (hs := (t_up h u (pcl tv q q 0 va w xa), z)) (p := q) (fi (pcl tv q q 0 va w xa)).2.2.2 hI hn hqn t_up_s (ci _)
    rw [← hT0] at m1 u1 f1
    refine ⟨h1, ((fi (pcl tv q q 0 va w xa)).trans m1).le (by omega) (by omega), ?_⟩
    rw [if_neg (by omega), if_neg (by omega), if_neg (by omega)]
    simp (maxSteps := 4000000) only [pp_3, pc_k, Option.bind_some]
    refine ⟨by rw [e1, bV_rV]; rfl, va, w1, ?_, fun x => by omega, fun _ => ?_⟩
    · rw [← hq, hk]; exact u1
    · rw [← hq]; exact f1
  · have nL : ¬ (97 ≤ inp q ∧ inp q ≤ 122) := fun x => gL (gl.mpr x)
    have hk : tkK inp n p = 4 := by rw [kk, if_neg gL, if_neg gD, if_neg g59]
    have hT0 : tkT inp n p = q + 1 := by unfold tkT; rw [if_neg (by omega), if_neg (by omega), if_neg (by omega), hq]
    obtain ⟨h1, p1, x1⟩ := c_throw (G := G) (c := 1) (hs := (t_up h u (pcl tv q q kd va w xa), z)) (fi (pcl tv q q kd va w xa)).2.2.2 t_up_s
    refine ⟨h1, ((fi (pcl tv q q kd va w xa)).trans (x1.mono (fun q y => absurd y (fun y => y)) (Nat.le_refl _) (Nat.le_refl _))).le (by omega) (by omega), ?_⟩
    rw [if_pos hk]
    simp only [pc_k, Option.bind_some]
    have sel2 : ∀ R Q : Option tRS, (if sgn (inp q) < 97 then R else if 122 < sgn (inp q) then R else Q) = R := fun R Q => by
      by_cases x : sgn (inp q) < 97
      · rw [if_pos x]
      · rw [if_neg x, if_pos (by omega)]
    rw [sel2]
    exact p1
end ADV
