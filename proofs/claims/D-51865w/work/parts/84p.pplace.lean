section CP2
variable {G : tG} {D D' M : Nat → Prop} {hs : tHS} {u xa ia a n p0 : Nat} {inp : Nat → Int} {s : tRow}
theorem shpS_1 {p : Nat} (h : shpS inp n p ≠ -1) : tkK inp n p = 1 := by
  by_cases c : tkK inp n p = 1
  · exact c
  · refine absurd ?_ h
    have w : ∀ l, wrd inp n p l = false := fun l => by unfold wrd; rw [decide_eq_false c]; rfl
    unfold shpS
    rw [w, w, w, w, w]
    rfl
/-- the shape's word behind the token p0 -/
theorem c_shape (k : PGa G D M hs u xa ia a inp n p0 s 2) (W0 : WD D' hs.1 (G.1 23) wBar) (W1 : WD D' hs.1 (G.1 33) wElbow) (W2 : WD D' hs.1 (G.1 45) wRod) (W3 : WD D' hs.1 (G.1 47) wSquare) (W4 : WD D' hs.1 (G.1 31) wCorner) {K : Option Nat → tHS → Option tRS} : ∃ hs', Mx (MU u M) (16 * (tkT inp n (tkT inp n p0) - tkT inp n p0) + 1) (100 * (tkT inp n (tkT inp n p0) - tkT inp n p0) + 8) hs hs' ∧
    if shpS inp n (tkT inp n p0) = -1 then PErr 1 (tkF inp n (tkT inp n p0)) hs.2.1 ((t_kN hs.1 (.ref u) 6).bind fun a_1 => bndV (t_Ev (t_pg G) t_hd Y_X6_advance 0 ([some (.ref a_1), none], [], hs)) (fun hs_2 => (t_kN hs_2.1 (.ref u) 6).bind fun a_3 => bndV (t_Ev (t_pg G) t_hd Y_X6_expect 0 ([some (.ref a_3), some (.int (iI 0))], [], hs_2)) (fun hs_4 => (t_kN hs_4.1 (.ref u) 6).bind fun a_5 => bndR (t_Ev (t_pg G) t_hd Y_X6_shapeOfWord 0 ([some (.ref a_5), none, none], [], hs_4)) K tX) tX) tX) hs' else
      ((t_kN hs.1 (.ref u) 6).bind fun a_1 => bndV (t_Ev (t_pg G) t_hd Y_X6_advance 0 ([some (.ref a_1), none], [], hs)) (fun hs_2 => (t_kN hs_2.1 (.ref u) 6).bind fun a_3 => bndV (t_Ev (t_pg G) t_hd Y_X6_expect 0 ([some (.ref a_3), some (.int (iI 0))], [], hs_2)) (fun hs_4 => (t_kN hs_4.1 (.ref u) 6).bind fun a_5 => bndR (t_Ev (t_pg G) t_hd Y_X6_shapeOfWord 0 ([some (.ref a_5), none, none], [], hs_4)) K tX) tX) tX) = K (some (G.1 (shpS inp n (tkT inp n p0)).toNat)) hs' ∧ PGa G D M hs' u xa ia a inp n (tkT inp n p0) s 2 := by
  obtain ⟨kd, va, w, e⟩ := k.u
  have ul := k.fi.lt e
  have t0 := tkT_m (inp := inp) k.hp
  obtain ⟨p, hpq⟩ : ∃ p, p = tkT inp n p0 := ⟨_, rfl⟩
  rw [← hpq] at e t0 ⊢
  obtain ⟨h1, m1, r1⟩ := c_advance (G := G) k.fi k.ib k.h6 t0.2 e k.ci
  have z1 := m1.2.1.1
  rw [kN_at e, Option.bind_some]
  by_cases k4 : tkK inp n p = 4
  · rw [if_pos k4] at r1
    have sd : shpS inp n p = -1 := by
      by_cases c : shpS inp n p = -1
      · exact c
      · have := shpS_1 c; omega
    refine ⟨h1, m1.mu.le (by omega) (by omega), ?_⟩
    rw [if_pos sd]
    exact r1.bV
  rw [if_neg k4] at r1
  obtain ⟨e1, tk1⟩ := r1
  have k1 := k.mv m1 t0.2 tk1.u
  obtain ⟨kd1, va1, w1, e1'⟩ := k1.u
  obtain ⟨hb, xb, rb⟩ := c_expect (G := G) k1.fi tk1 k4 (t := 1) (by decide)
  rw [show cKd 1 = 0 from rfl] at rb
  rw [e1, bV_rV, kN_at e1', Option.bind_some]
  by_cases kw : tkK inp n p = 1
  case neg =>
    rw [if_neg kw] at rb
    have sd : shpS inp n p = -1 := by
      by_cases c : shpS inp n p = -1
      · exact c
      · exact absurd (shpS_1 c) kw
    refine ⟨hb, (m1.mu.trans (Mx.u0 xb).mu).le (by omega) (by omega), ?_⟩
    rw [if_pos sd]
    exact rb.bV.le z1
  rw [if_pos kw] at rb
  rw [rb.1, bV_rV, kN_at e1', Option.bind_some]
  have wk : ∀ {q : Nat} {l : List Int}, WD D' hs.1 q l → WD D' h1.1 q l := fun W => W.mu k.fi m1 e rfl
  obtain ⟨w2, vq0, hv, hz, h2, zw, ew, m2, r2⟩ := c_shapeOfWord (G := G) k1.fi tk1 kw k.h6 t0.2 ul (wk W0) (wk W1) (wk W2) (wk W3) (wk W4)
  have m2' : Mx (MU u M) 1 8 h1 h2 := m2.mono (fun q hq => Or.inr (k.mz q (by omega))) (Nat.le_refl _) (Nat.le_refl _)
  refine ⟨h2, (m1.mu.trans m2').le (by omega) (by omega), ?_⟩
  by_cases sd : shpS inp n p = -1
  · rw [if_pos sd] at r2
    rw [if_pos sd]
    exact r2.bR.le z1
  · rw [if_neg sd] at r2
    rw [if_neg sd, bR_ex r2.1]
    exact ⟨rfl, by rw [r2.2]; exact k1.hw ew⟩
end CP2
