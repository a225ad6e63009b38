/-! ===== the component's parser: small steps ===== -/
theorem cKd_inj {a b : Int} (ha : 0 ≤ a ∧ a ≤ 3) (hb : 0 ≤ b ∧ b ≤ 3) : (cKd a = cKd b) = (a = b) := by
  unfold cKd
  apply propext
  constructor
  · intro h
    split at h <;> split at h <;> (try split at h) <;> (try split at h) <;> (try split at h) <;> (try split at h) <;> omega
  · intro h; rw [h]
theorem cKd_b {a : Int} : 0 ≤ cKd a ∧ cKd a ≤ 3 := by unfold cKd; split <;> (try split) <;> (try split) <;> omega
theorem PErr.le {c : Int} {o z z' : Nat} {r : Option tRS} {hs' : tHS} (h : PErr c o z r hs') (hz : z' ≤ z) : PErr c o z' r hs' := by
  obtain ⟨e, h1, h2, h3⟩ := h
  exact ⟨e, h1, by omega, h3⟩
theorem PErr.bV {c : Int} {o z : Nat} {r : Option tRS} {hs' : tHS} (h : PErr c o z r hs') {K : tHS → Option tRS} : PErr c o z (bndV r K tX) hs' := by
  obtain ⟨e, h1, h2, h3⟩ := h
  exact ⟨e, by rw [h1]; rfl, h2, h3⟩
theorem PErr.bI {c : Int} {o z : Nat} {r : Option tRS} {hs' : tHS} (h : PErr c o z r hs') {K : Int32 → tHS → Option tRS} : PErr c o z (bndI r K tX) hs' := by
  obtain ⟨e, h1, h2, h3⟩ := h
  exact ⟨e, by rw [h1]; rfl, h2, h3⟩
theorem PErr.bR {c : Int} {o z : Nat} {r : Option tRS} {hs' : tHS} (h : PErr c o z r hs') {K : Option Nat → tHS → Option tRS} : PErr c o z (bndR r K tX) hs' := by
  obtain ⟨e, h1, h2, h3⟩ := h
  exact ⟨e, by rw [h1]; rfl, h2, h3⟩
theorem TKc.z {h : tAH} {u xa : Nat} {tv : Value} {inp : Nat → Int} {n p z z' : Nat} (k : TKc h u xa tv inp n p z) (hz : z' ≤ z) : TKc h u xa tv inp n p z' := by
  obtain ⟨va, w, e1, e2, e3⟩ := k
  exact ⟨va, w, e1, e2, fun q => (e3 q).le hz⟩
theorem Mx.u0 {u c d : Nat} {h0 h1 : tHS} (x : Ex c d h0 h1) : Mx (fun q => q = u) c d h0 h1 := x.mono (fun q y => absurd y (fun y => y)) (Nat.le_refl _) (Nat.le_refl _)
/-- the object's input stays readable -/
theorem CI.mx {c d xa ia n u : Nat} {inp : Nat → Int} {h0 h1 : tHS} (hF : Fi h0) (k : CI h0.1 xa ia inp n) (m : Mx (fun q => q = u) c d h0 h1) {e : List Value} {b : Bool} {kk : Nat} (hu : h0.1 u = some (b, kk, .inl e)) (hk : kk ≠ 0) : CI h1.1 xa ia inp n := by
  have ne := k.ne hu hk
  have xl : xa < h0.2.1 := by obtain ⟨⟨bx, fl, e1, -⟩, -⟩ := k; exact hF.lt e1
  have il : ia < h0.2.1 := by obtain ⟨-, bi, q, e4, -⟩ := k; exact hF.lt e4
  exact k.cg (m.1 xa xl ne.1) (m.1 ia il ne.2)
/-- the present token's ends, in the parser's cell -/
def TKu (h : tAH) (u xa : Nat) (tv : Value) (inp : Nat → Int) (n p : Nat) : Prop := ∃ kd va w, h u = some (pcl tv (tkT inp n p) (tkF inp n p) kd va w xa)
theorem TKc.u {h : tAH} {u xa : Nat} {tv : Value} {inp : Nat → Int} {n p z : Nat} (k : TKc h u xa tv inp n p z) : TKu h u xa tv inp n p := by
  obtain ⟨va, w, e1, -⟩ := k
  exact ⟨_, va, w, e1⟩
/-- entries of a game's kinds stay where the parser's cell alone changes -/
theorem Kp.mxu {c d u : Nat} {h0 h1 : tHS} {e0 : tEnt} (hF : Fi h0) (m : Mx (fun q => q = u) c d h0 h1) (hu : h0.1 u = some e0) (ht : tgG (tg e0) = false) : Kp tgG h0.1 h1.1 := fun q e hq hT => by
  have ne : q ≠ u := fun z => by
    rw [z, hu] at hq
    cases hq
    rw [ht] at hT; cases hT
  exact (m.1 q (hF.lt hq) ne).trans hq
section PT
variable {G : tG} {D : Nat → Prop} {hs : tHS} {u xa ia n : Nat} {inp : Nat → Int} {tv : Value} {z : Nat}
theorem c_expect {p : Nat} (hF : Fi hs) (k : TKc hs.1 u xa tv inp n p z) (h4 : tkK inp n p ≠ 4) {t : Int} (ht : 0 ≤ t ∧ t ≤ 3) : ∃ hs', Ex 1 8 hs hs' ∧ if tkK inp n p = t then t_Ev (t_pg G) t_hd Y_X6_expect 0 ([some (.ref u), some (.int (iI (cKd t)))], [], hs) = rV hs ∧ hs' = hs else PErr 1 (tkF inp n p) hs.2.1 (t_Ev (t_pg G) t_hd Y_X6_expect 0 ([some (.ref u), some (.int (iI (cKd t)))], [], hs)) hs' := by
  obtain ⟨va, w, e1, -, -⟩ := k
  have hk := tkK_b (inp := inp) (n := n) (p := p)
  have b1 := cKd_b (a := tkK inp n p)
  have b2 := cKd_b (a := t)
  rw [b_X6_expect_0, gfI_at (k := 3) (x := iI (cKd (tkK inp n p))) e1 rfl, Option.bind_some]
  simp (disch := omega) only [iI_inj]
  have ci := cKd_inj (a := tkK inp n p) (b := t) (by omega) ht
  simp only [ci]
  by_cases c : tkK inp n p = t
  · refine ⟨hs, Mx.refl hF, ?_⟩
    rw [if_pos c, if_pos c]
    exact ⟨rfl, rfl⟩
  · obtain ⟨h1, p1, x1⟩ := c_throw (G := G) (c := 1) hF e1
    refine ⟨h1, x1, ?_⟩
    rw [if_neg c, if_neg c, kN_at e1, Option.bind_some]
    exact p1
theorem c_isWord {p a : Nat} {l : List Int} (k : TKc hs.1 u xa tv inp n p z) (hn : n ≤ 600) (hp : p ≤ n) (W : WD D hs.1 a l) (hl : l.length ≤ 10) : t_Ev (t_pg G) t_hd Y_X6_isWord 0 ([some (.ref u), some (.ref a)], [], hs) = rB (wrd inp n p l) hs := by
  obtain ⟨va, w, e1, -, e3⟩ := k
  have hk := tkK_b (inp := inp) (n := n) (p := p)
  have b1 := cKd_b (a := tkK inp n p)
  have hT := tkT_b (inp := inp) hp
  rw [b_X6_isWord_0, gfI_at (k := 3) (x := iI (cKd (tkK inp n p))) e1 rfl, Option.bind_some]
  unfold wrd
  by_cases c : tkK inp n p = 1
  · have F := e3 c
    obtain ⟨vq, g, f1, -⟩ := id F
    rw [c, show cKd 1 = 0 from rfl, if_pos rfl, gfR_at (k := 5) (q := w) e1 rfl, Option.bind_some, va_rf_some, kN_at f1, Option.bind_some]
    rw [c_sEq F.st W.1 (by omega) (by omega) (fun j hj => by have := tk_let c (j := tkF inp n p + j) (by omega) (by omega); omega) (fun j hj => W.at), bI_rB, decide_eq_true (show (1 : Int) = 1 from rfl), Bool.true_and]
    have e : (decide (tkT inp n p - tkF inp n p = l.length) && al (fun j => decide (inp (tkF inp n p + j) = l.getD j 0)) (tkT inp n p - tkF inp n p)) = (decide (tkT inp n p - tkF inp n p = l.length) && al (fun j => decide (inp (tkF inp n p + j) = l.getD j 0)) l.length) := by
      by_cases d : tkT inp n p - tkF inp n p = l.length
      · rw [d]
      · rw [decide_eq_false d]; rfl
    rw [e]
    cases (decide (tkT inp n p - tkF inp n p = l.length) && al (fun j => decide (inp (tkF inp n p + j) = l.getD j 0)) l.length) <;> rfl
  · have : ¬ iI (cKd (tkK inp n p)) = iI 0 := by
      rw [iI_inj (by omega) (by omega) (by omega) (by omega)]
      unfold cKd
      rw [if_neg c]
      split
      · omega
      · split <;> omega
    rw [if_neg this, decide_eq_false c]
    rfl
theorem c_expectWord {p a : Nat} {l : List Int} (hF : Fi hs) (k : TKc hs.1 u xa tv inp n p z) (hn : n ≤ 600) (hp : p ≤ n) (W : WD D hs.1 a l) (hl : l.length ≤ 10) : ∃ hs', Ex 1 8 hs hs' ∧ if wrd inp n p l = true then t_Ev (t_pg G) t_hd Y_X6_expectWord 0 ([some (.ref u), some (.ref a)], [], hs) = rV hs ∧ hs' = hs else PErr 1 (tkF inp n p) hs.2.1 (t_Ev (t_pg G) t_hd Y_X6_expectWord 0 ([some (.ref u), some (.ref a)], [], hs)) hs' := by
  obtain ⟨va, w, e1, -, -⟩ := id k
  rw [b_X6_expectWord_0, kN_at e1, Option.bind_some, c_isWord k hn hp W hl, bI_rB]
  simp only [bB_0]
  cases wrd inp n p l with
  | true => exact ⟨hs, Mx.refl hF, by rw [if_pos rfl, if_neg (by decide)]; exact ⟨rfl, rfl⟩⟩
  | false =>
    obtain ⟨h1, p1, x1⟩ := c_throw (G := G) (c := 1) hF e1
    refine ⟨h1, x1, ?_⟩
    rw [if_neg (by decide), if_pos rfl, kN_at e1, Option.bind_some]
    exact p1
/-- a number, behind the token p0 -/
theorem c_number {p0 : Nat} (hF : Fi hs) (hI : IB inp) (hn : n ≤ 600) (hp : p0 ≤ n) (k : TKu hs.1 u xa tv inp n p0) (c : CI hs.1 xa ia inp n) {lo hi : Int} (h1 : 0 ≤ lo ∧ lo ≤ 100) (h2 : -1 ≤ hi ∧ hi ≤ 100) : ∃ hs', Mx (fun q => q = u) (16 * (tkT inp n (tkT inp n p0) - tkT inp n p0) + 1) (100 * (tkT inp n (tkT inp n p0) - tkT inp n p0) + 8) hs hs' ∧
    if hC inp n lo hi (tkT inp n p0) = 0 then t_Ev (t_pg G) t_hd Y_X6_number 0 ([some (.ref u), some (.int (iI lo)), some (.int (iI hi))], [], hs) = rI (tkV inp n (tkT inp n p0)) hs' ∧ TKc hs'.1 u xa tv inp n (tkT inp n p0) hs.2.1 else PErr (hC inp n lo hi (tkT inp n p0)) (tkF inp n (tkT inp n p0)) hs.2.1 (t_Ev (t_pg G) t_hd Y_X6_number 0 ([some (.ref u), some (.int (iI lo)), some (.int (iI hi))], [], hs)) hs' := by
  obtain ⟨kd, va, w, e1⟩ := id k
  have hT := tkT_m (inp := inp) hp
  generalize tkT inp n p0 = p at e1 hT ⊢
  have hv := tkV_b hI (n := n) (p := p)
  obtain ⟨ha, ma, ra⟩ := c_advance (G := G) hF hI hn hT.2 e1 c
  have la := ma.2.1.1
  rw [b_X6_number_0, kN_at e1, Option.bind_some]
  by_cases k4 : tkK inp n p = 4
  · rw [if_pos k4] at ra
    refine ⟨ha, ma.le (by omega) (by omega), ?_⟩
    have hc : hC inp n lo hi p = 1 := by unfold hC; rw [if_neg (by omega)]
    rw [hc, if_neg (by decide)]
    exact ra.bV
  rw [if_neg k4] at ra
  obtain ⟨ea, ka⟩ := ra
  rw [ea, bV_rV]
  obtain ⟨va', w', e1', e2', -⟩ := id ka
  rw [kN_at e1', Option.bind_some]
  obtain ⟨hb, xb, rb⟩ := c_expect (G := G) ma.2.2.2 ka k4 (t := 2) (by decide)
  rw [show cKd 2 = 1 from rfl] at rb
  by_cases k2 : tkK inp n p = 2
  · rw [if_pos k2] at rb
    have hva := e2' k2
    rw [rb.1, bV_rV, gfI_at (k := 4) (x := iI va') e1' rfl, Option.bind_some, hva]
    simp (disch := omega) only [iI_lt]
    by_cases g1 : tkV inp n p < lo
    · have hc : hC inp n lo hi p = 2 := by unfold hC; rw [if_pos k2, if_neg (by omega)]
      obtain ⟨ht, pt, xt⟩ := c_throw (G := G) (c := 2) ma.2.2.2 e1'
      refine ⟨ht, (ma.trans (Mx.u0 xt)).le (by omega) (by omega), ?_⟩
      rw [hc, if_neg (by decide), if_pos (by omega), kN_at e1', Option.bind_some]
      exact pt.le la
    · rw [if_neg (by omega), Option.bind_some]
      simp (disch := omega) only [iI_lt]
      by_cases g2 : hi < tkV inp n p
      · have hc : hC inp n lo hi p = 2 := by unfold hC; rw [if_pos k2, if_neg (by omega)]
        obtain ⟨ht, pt, xt⟩ := c_throw (G := G) (c := 2) ma.2.2.2 e1'
        refine ⟨ht, (ma.trans (Mx.u0 xt)).le (by omega) (by omega), ?_⟩
        rw [hc, if_neg (by decide), if_pos (by omega), kN_at e1', Option.bind_some]
        exact pt.le la
      · have hc : hC inp n lo hi p = 0 := by unfold hC; rw [if_pos k2, if_pos (by omega)]
        refine ⟨ha, ma.le (by omega) (by omega), ?_⟩
        rw [hc, if_pos rfl, if_neg (by omega), Option.bind_some, show min 1000 (tkV inp n p) = tkV inp n p by omega]
        exact ⟨rfl, ka⟩
  · rw [if_neg k2] at rb
    have hc : hC inp n lo hi p = 1 := by unfold hC; rw [if_neg k2]
    refine ⟨hb, (ma.trans (Mx.u0 xb)).le (by omega) (by omega), ?_⟩
    rw [hc, if_neg (by decide)]
    exact rb.bV.le la
/-- a statement's end, behind the token p0 -/
theorem c_endSt {p0 : Nat} (hF : Fi hs) (hI : IB inp) (hn : n ≤ 600) (hp : p0 ≤ n) (k : TKu hs.1 u xa tv inp n p0) (c : CI hs.1 xa ia inp n) : ∃ hs', Mx (fun q => q = u) (16 * (tkT inp n (tkT inp n (tkT inp n p0)) - tkT inp n p0) + 1) (100 * (tkT inp n (tkT inp n (tkT inp n p0)) - tkT inp n p0) + 8) hs hs' ∧
    if tkK inp n (tkT inp n p0) = 3 then (if tkK inp n (tkT inp n (tkT inp n p0)) = 4 then PErr 1 (tkF inp n (tkT inp n (tkT inp n p0))) hs.2.1 (t_Ev (t_pg G) t_hd Y_X6_endStatement 0 ([some (.ref u)], [], hs)) hs' else t_Ev (t_pg G) t_hd Y_X6_endStatement 0 ([some (.ref u)], [], hs) = rV hs' ∧ TKc hs'.1 u xa tv inp n (tkT inp n (tkT inp n p0)) hs.2.1) else PErr 1 (tkF inp n (tkT inp n p0)) hs.2.1 (t_Ev (t_pg G) t_hd Y_X6_endStatement 0 ([some (.ref u)], [], hs)) hs' := by
  obtain ⟨kd, va, w, e1⟩ := id k
  have hT := tkT_m (inp := inp) hp
  generalize tkT inp n p0 = p at e1 hT ⊢
  have hT2 := tkT_m (inp := inp) hT.2
  have hT3 := tkT_m (inp := inp) hT2.2
  obtain ⟨ha, ma, ra⟩ := c_advance (G := G) hF hI hn hT.2 e1 c
  have la := ma.2.1.1
  rw [b_X6_endStatement_0, kN_at e1, Option.bind_some]
  by_cases k4 : tkK inp n p = 4
  · rw [if_pos k4] at ra
    refine ⟨ha, ma.le (by omega) (by omega), ?_⟩
    rw [if_neg (by omega)]
    exact ra.bV
  rw [if_neg k4] at ra
  obtain ⟨ea, ka⟩ := ra
  rw [ea, bV_rV]
  obtain ⟨va', w', e1', e2', -⟩ := id ka
  rw [kN_at e1', Option.bind_some]
  obtain ⟨hb, xb, rb⟩ := c_expect (G := G) ma.2.2.2 ka k4 (t := 3) (by decide)
  rw [show cKd 3 = 2 from rfl] at rb
  by_cases k3 : tkK inp n p = 3
  · rw [if_pos k3] at rb
    rw [rb.1, bV_rV, kN_at e1', Option.bind_some]
    obtain ⟨hd, md, rd⟩ := c_advance (G := G) ma.2.2.2 hI hn hT2.2 e1' (c.mx hF ma e1 (by decide))
    refine ⟨hd, (ma.trans md).le (by omega) (by omega), ?_⟩
    rw [if_pos k3]
    by_cases q4 : tkK inp n (tkT inp n p) = 4
    · rw [if_pos q4] at rd
      rw [if_pos q4]
      exact rd.bV.le la
    · rw [if_neg q4] at rd
      rw [if_neg q4, rd.1, bV_rV]
      exact ⟨rfl, rd.2.z la⟩
  · rw [if_neg k3] at rb
    refine ⟨hb, (ma.trans (Mx.u0 xb)).le (by omega) (by omega), ?_⟩
    rw [if_neg k3]
    exact rb.bV.le la
end PT
