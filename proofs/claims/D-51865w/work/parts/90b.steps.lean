/-! ===== the law's loop: one command ===== -/
/-- the number a wrapper answers -/
def cd (kc : Nat → Int) (r : Nat ⊕ Int) : Int := match r with
  | .inl κ => kc κ
  | .inr _ => 0
theorem stL_at {h : tAH} {oa : Nat} {fo : Nat → Int64} {l : Int64} (e : h oa = some (true, 3, .inr (1, .inr (.inl fo)))) : stL h (.ref oa) (iI 0) l = some (t_up h oa (true, 3, .inr (1, .inr (.inl (vp_updL fo 0 l))))) := by
  simp only [stL, e]
  exact if_pos ⟨trivial, by decide⟩
theorem ldL_at {h : tAH} {oa : Nat} {fo : Nat → Int64} (e : h oa = some (true, 3, .inr (1, .inr (.inl fo)))) : ldL h (.ref oa) (iI 0) = some (fo 0) := by
  simp only [ldL, e]
  exact if_pos ⟨trivial, by decide⟩
theorem updL_s {fo : Nat → Int64} {l : Int64} : vp_updL fo 0 l 0 = l := by
  unfold vp_updL
  simp
theorem lg_self {l : Int64} : lg_cmp l l = iI 0 := by
  unfold lg_cmp
  rw [if_neg (fun h => absurd h Int64.lt_irrefl), if_pos rfl]
  rfl
def KR (kc : Nat → Int) (r : Nat ⊕ Int) (t v : Int) : Prop := match r with
  | .inl κ => t = kc κ
  | .inr w => t = 0 ∧ v = w
section STP
variable {G : tG} {hA hs : tHS} {sa len x m oa : Nat} {f : Nat → Int32} {fC fi : Nat → Int} {aC ar : Nat → Nat → Int} {kc : Nat → Int} {r : Nat ⊕ Int}
/-- the out array written -/
theorem JM.out {l : Int64} (J : JM G hA x m oa hs fC aC fi ar) (ho : (fC 14).toNat ≤ 199) : ∃ h', stL hs.1 (.ref oa) (iI 0) l = some h' ∧ JM G hA x m oa (h', hs.2) fC aC fi ar ∧ ldL h' (.ref oa) (iI 0) = some l := by
  obtain ⟨fo, eo⟩ := J.ov
  have am := J.am
  have nm := J.nm
  have oo := J.oo
  have lo : oa < hs.2.1 := J.fr.lt eo
  obtain ⟨sv, a, ia, ow, dq, sb, ea, hd, gs, fs, X⟩ := J.xo
  have ky : Kp tgY hs.1 (t_up hs.1 oa (true, 3, .inr (1, .inr (.inl (vp_updL fo 0 l))))) := Kp.up eo rfl
  have nx := X.nx
  have ne : ∀ q, NN hA m q → q ≠ oa := fun q hq => by have := hq.2; omega
  have X' := X.fr ho ky (t_up_n (ne x nx.1)) (t_up_n (ne ia nx.2.1)) (t_up_n (ne dq nx.2.2.1)) (t_up_n (ne ea nx.2.2.2.1)) (t_up_n (ne sb nx.2.2.2.2))
  refine ⟨_, stL_at eo, ⟨fun q hq => (t_up_n (by have hq' : hs.2.1 ≤ q := hq; omega)).trans (J.fr q hq), X'.xo, hM_w (g := hs.1) fun q hq => (t_up_n (by omega)).trans (congrFun J.hm q), fun q hq => (t_up_n (by omega)).trans (J.lo q hq), am, nm, oo, _, t_up_s⟩, (ldL_at t_up_s).trans (by rw [updL_s])⟩
/-- a wrapper called -/
theorem JV.w {E1 : Option tRS} {y pc : Nat} {ls : tLs} (J : JV G hA x m oa hs fi ar) (c : CG G hA x m E1 hs r fC aC) (ho : (fC 14).toNat ≤ 199) (hh : ∀ κ ax hx, r = .inl κ → t_kind hx.1 ax = κ → t_thr (t_pg G) t_hd y pc ls ax hx = rI (kc κ) hx) : ∃ hs1, bndI E1 (fun x_3 hs_2 => (stL hs_2.1 (.ref oa) (iI 0) x_3.toInt64).bind fun h_4 => some (.inl (some (.int (iI 0))), (h_4, hs_2.2))) (fun ax hx => t_thr (t_pg G) t_hd y pc ls ax hx) = rI (cd kc r) hs1 ∧ JM G hA x m oa hs1 fC aC fi ar ∧ (∀ w, r = .inr w → ldL hs1.1 (.ref oa) (iI 0) = some (iI w).toInt64) ∧ hs1.2.1 ≤ hs.2.1 + 31000 ∧ hs1.2.2 ≤ hs.2.2 + 182000 := by
  obtain ⟨hs1, e1, X1, M1⟩ := c
  have J1 := J.1.after X1 M1
  cases r with
  | inl κ =>
    obtain ⟨e, e1, k1⟩ := e1
    refine ⟨hs1, ?_, J1, (fun w h => nomatch h), M1.2.1.2, M1.2.2.1.2⟩
    rw [e1]
    exact hh κ e hs1 rfl k1
  | inr v =>
    obtain ⟨h', e2, J2, e3⟩ := J1.out (l := (iI v).toInt64) ho
    refine ⟨(h', hs1.2), ?_, J2, (fun w h => by cases h; exact e3), M1.2.1.2, M1.2.2.1.2⟩
    rw [show E1 = rI v hs1 from e1, bI_rI, e2]
    rfl
theorem JV.wb {E1 : Option tRS} {y pc : Nat} {ls : tLs} (J : JV G hA x m oa hs fi ar) (c : CG G hA x m E1 hs r fC aC) (ho : (fC 14).toNat ≤ 199) (hb : ∀ w, r = .inr w → w = 0 ∨ w = 1) (hh : ∀ κ ax hx, r = .inl κ → t_kind hx.1 ax = κ → t_thr (t_pg G) t_hd y pc ls ax hx = rI (kc κ) hx) : ∃ hs1, bndI E1 (fun x_3 hs_2 => if x_3 = iI 0 then (stL hs_2.1 (.ref oa) (iI 0) (0 : Int64)).bind fun h_4 => some (.inl (some (.int (iI 0))), (h_4, hs_2.2)) else (stL hs_2.1 (.ref oa) (iI 0) (1 : Int64)).bind fun h_5 => some (.inl (some (.int (iI 0))), (h_5, hs_2.2))) (fun ax hx => t_thr (t_pg G) t_hd y pc ls ax hx) = rI (cd kc r) hs1 ∧ JM G hA x m oa hs1 fC aC fi ar ∧ (∀ w, r = .inr w → ldL hs1.1 (.ref oa) (iI 0) = some (iI w).toInt64) ∧ hs1.2.1 ≤ hs.2.1 + 31000 ∧ hs1.2.2 ≤ hs.2.2 + 182000 := by
  obtain ⟨hs1, e1, X1, M1⟩ := c
  have J1 := J.1.after X1 M1
  cases r with
  | inl κ =>
    obtain ⟨e, e1, k1⟩ := e1
    refine ⟨hs1, ?_, J1, (fun w h => nomatch h), M1.2.1.2, M1.2.2.1.2⟩
    rw [e1]
    exact hh κ e hs1 rfl k1
  | inr v =>
    obtain ⟨h', e2, J2, e3⟩ := J1.out (l := (iI v).toInt64) ho
    refine ⟨(h', hs1.2), ?_, J2, (fun w h => by cases h; exact e3), M1.2.1.2, M1.2.2.1.2⟩
    rw [show E1 = rI v hs1 from e1, bI_rI]
    rcases hb v rfl with rfl | rfl
    · rw [if_pos rfl, show (0 : Int64) = (iI 0).toInt64 from rfl, e2]
      rfl
    · rw [if_neg (by decide), show (1 : Int64) = (iI 1).toInt64 from rfl, e2]
      rfl
/-- the model's part of a command -/
theorem JM.stM {E5 : Option tRS} (J : JM G hA x m oa hs fC aC fi ar) (mm : MM m hs.1 hs.2 kc E5 r fC aC) : ∃ (hs' : tHS) (fi' : Nat → Int) (ar' : Nat → Nat → Int) (v : Int), E5 = rI v hs' ∧ t_kN hs'.1 (.ref m) 1 = some m ∧ t_Ev (t_pg G) t_hd Y_X5_thrown 0 ([some (.ref m)], [], hs') = rI (fi' 7) hs' ∧ KR kc r (fi' 7) v ∧ JV G hA x m oa hs' fi' ar' ∧ hs'.2 = hs.2 ∧ hs'.1 oa = hs.1 oa := by
  obtain ⟨fi', ar', v, e, k, ag, md⟩ := mm
  exact ⟨(hM m fi' ar' hs.1, hs.2), fi', ar', v, e, mK, e_thrown, k, J.done ag md, rfl, hM_o (Or.inr (by have := J.oo; omega))⟩
theorem JM.stQ {w : Int} {E5 : Nat → Option tRS} {K Z : tHS → Option tRS} (J : JM G hA x m oa hs fC aC fi ar) (mm : MM m hs.1 hs.2 kc (E5 m) (.inr w) fC aC) : ∃ (hs' : tHS) (fi' : Nat → Int) (ar' : Nat → Nat → Int), ((t_kN hs.1 (.ref m) 1).bind fun a_4 => bndI (E5 a_4) (fun x_6 hs_5 => if iI w = x_6 then K hs_5 else Z hs_5) tX) = K hs' ∧ JV G hA x m oa hs' fi' ar' ∧ hs'.2 = hs.2 := by
  obtain ⟨hs', fi', ar', v, e, -, -, ⟨-, k⟩, J', hz, -⟩ := J.stM mm
  refine ⟨hs', fi', ar', ?_, J', hz⟩
  rw [J.km, Option.bind_some, e, bI_rI, k, if_pos rfl]
theorem JM.stX {E5 : Nat → Option tRS} {K : Int32 → Int32 → tHS → Option tRS} {Z : tHS → Option tRS} (J : JM G hA x m oa hs fC aC fi ar) (mm : MM m hs.1 hs.2 kc (E5 m) r fC aC) (hl : ∀ w, r = .inr w → ldL hs.1 (.ref oa) (iI 0) = some (iI w).toInt64) (hk : ∀ κ, r = .inl κ → 1 ≤ kc κ ∧ kc κ ≤ 3) : ∃ (hs' : tHS) (fi' : Nat → Int) (ar' : Nat → Nat → Int) (xb : Int32), ((t_kN hs.1 (.ref m) 1).bind fun a_11 => bndI (E5 a_11) (fun x_13 hs_12 => (t_kN hs_12.1 (.ref m) 1).bind fun a_14 => bndI (t_Ev (t_pg G) t_hd Y_X5_thrown 0 ([some (.ref a_14)], [], hs_12)) (fun x_16 hs_15 => if x_16 = iI (cd kc r) then if iI (cd kc r) = iI 0 then (ldL hs_15.1 (.ref oa) (iI 0)).bind fun l_17 => if (lg_cmp l_17 x_13.toInt64) = iI 0 then K (iI (cd kc r)) x_13 hs_15 else Z hs_15 else K (iI (cd kc r)) x_13 hs_15 else Z hs_15) tX) tX) = K (iI (cd kc r)) xb hs' ∧ JV G hA x m oa hs' fi' ar' ∧ hs'.2 = hs.2 := by
  obtain ⟨hs', fi', ar', v, e, km, et, k, J', hz, eo⟩ := J.stM mm
  refine ⟨hs', fi', ar', iI v, ?_, J', hz⟩
  rw [J.km, Option.bind_some, e, bI_rI, km, Option.bind_some, et, bI_rI]
  cases r with
  | inl κ =>
    have b := hk κ rfl
    have k : fi' 7 = kc κ := k
    show (if iI (fi' 7) = iI (kc κ) then _ else _) = _
    rw [k, if_pos rfl]
    show (if iI (kc κ) = iI 0 then _ else _) = _
    simp (disch := omega) only [iI_inj]
    rw [if_neg (by omega)]
  | inr w =>
    obtain ⟨k1, rfl⟩ := k
    have l := hl v rfl
    have l' : ldL hs'.1 (.ref oa) (iI 0) = some (iI v).toInt64 := by
      rw [← l]
      simp only [ldL, eo]
    show (if iI (fi' 7) = iI 0 then (if iI 0 = iI 0 then _ else _) else _) = _
    rw [k1, if_pos rfl, if_pos rfl, l', Option.bind_some, lg_self, if_pos rfl]
theorem bB_01 {b : Bool} : bB b = 0 ∨ bB b = 1 := by cases b; exact Or.inl rfl; exact Or.inr rfl
theorem JM.stXB {E5 : Nat → Option tRS} {K : Int32 → Int32 → tHS → Option tRS} {K9 : Int32 → Int32 → Int64 → Int64 → tHS → Option tRS} {Z : tHS → Option tRS} (J : JM G hA x m oa hs fC aC fi ar) (mm : MM m hs.1 hs.2 kc (E5 m) r fC aC) (hl : ∀ w, r = .inr w → ldL hs.1 (.ref oa) (iI 0) = some (iI w).toInt64) (hk : ∀ κ, r = .inl κ → 1 ≤ kc κ ∧ kc κ ≤ 3) (hb : ∀ w, r = .inr w → w = 0 ∨ w = 1) (h9 : ∀ a b l h, K9 a b l l h = K a b h) : ∃ (hs' : tHS) (fi' : Nat → Int) (ar' : Nat → Nat → Int) (xb : Int32), ((t_kN hs.1 (.ref m) 1).bind fun a_11 => bndI (E5 a_11) (fun x_13 hs_12 => (t_kN hs_12.1 (.ref m) 1).bind fun a_14 => bndI (t_Ev (t_pg G) t_hd Y_X5_thrown 0 ([some (.ref a_14)], [], hs_12)) (fun x_16 hs_15 => if x_16 = iI (cd kc r) then if iI (cd kc r) = iI 0 then (ldL hs_15.1 (.ref oa) (iI 0)).bind fun l_17 => if x_13 = iI 0 then K9 (iI (cd kc r)) x_13 l_17 (0 : Int64) hs_15 else K9 (iI (cd kc r)) x_13 l_17 (1 : Int64) hs_15 else K (iI (cd kc r)) x_13 hs_15 else Z hs_15) tX) tX) = K (iI (cd kc r)) xb hs' ∧ JV G hA x m oa hs' fi' ar' ∧ hs'.2 = hs.2 := by
  obtain ⟨hs', fi', ar', v, e, km, et, k, J', hz, eo⟩ := J.stM mm
  refine ⟨hs', fi', ar', iI v, ?_, J', hz⟩
  rw [J.km, Option.bind_some, e, bI_rI, km, Option.bind_some, et, bI_rI]
  cases r with
  | inl κ =>
    have b := hk κ rfl
    have k : fi' 7 = kc κ := k
    show (if iI (fi' 7) = iI (kc κ) then _ else _) = _
    rw [k, if_pos rfl]
    show (if iI (kc κ) = iI 0 then _ else _) = _
    simp (disch := omega) only [iI_inj]
    rw [if_neg (by omega)]
  | inr w =>
    obtain ⟨k1, rfl⟩ := k
    have l := hl v rfl
    have l' : ldL hs'.1 (.ref oa) (iI 0) = some (iI v).toInt64 := by
      rw [← l]
      simp only [ldL, eo]
    show (if iI (fi' 7) = iI 0 then (if iI 0 = iI 0 then _ else _) else _) = _
    rw [k1, if_pos rfl, if_pos rfl, l', Option.bind_some]
    rcases hb v rfl with rfl | rfl
    · rw [if_pos rfl]
      exact h9 _ _ _ _
    · rw [if_neg (by decide)]
      exact h9 _ _ _ _
def kcR (κ : Nat) : Int := if κ = 15 then 1 else 2
end STP
/-- one command done: at the loop's end, the state sound again -/
def StL (G : tG) (hA : tHS) (sa x m oa : Nat) (p : Int) (hs : tHS) (E : Option tRS) : Prop := ∃ (hs' : tHS) (fi' : Nat → Int) (ar' : Nat → Nat → Int) (w5 w6 w7 w8 : Option Value), E = t_Ev (t_pg G) t_hd Y_L_law 2718 ([some (.ref sa), some (.ref x), some (.ref m), some (.ref oa), some (.int (iI p)), w5, w6, w7, w8], [], hs') ∧ JV G hA x m oa hs' fi' ar' ∧ hs'.2.1 ≤ hs.2.1 + 31000 ∧ hs'.2.2 ≤ hs.2.2 + 182000
section STQ
variable {G : tG} {hA hs : tHS} {sa len x m oa : Nat} {f : Nat → Int32} {fC fi : Nat → Int} {aC ar : Nat → Nat → Int} {kc : Nat → Int}
theorem JV.q {w : Int} {E1 : Option tRS} {E5 : Nat → tHS → Option tRS} {K Z : tHS → Option tRS} (J : JV G hA x m oa hs fi ar) (c : CG G hA x m E1 hs (.inr w) fC aC) (mm : ∀ hs1, JM G hA x m oa hs1 fC aC fi ar → MM m hs1.1 hs1.2 kc (E5 m hs1) (.inr w) fC aC) : ∃ (hs' : tHS) (fi' : Nat → Int) (ar' : Nat → Nat → Int), bndI E1 (fun x_3 hs_2 => (t_kN hs_2.1 (.ref m) 1).bind fun a_4 => bndI (E5 a_4 hs_2) (fun x_6 hs_5 => if x_3 = x_6 then K hs_5 else Z hs_5) tX) tX = K hs' ∧ JV G hA x m oa hs' fi' ar' ∧ hs'.2.1 ≤ hs.2.1 + 31000 ∧ hs'.2.2 ≤ hs.2.2 + 182000 := by
  obtain ⟨hs1, e1, X1, M1⟩ := c
  have J1 := J.1.after X1 M1
  obtain ⟨hs', fi', ar', e, J', hz⟩ := J1.stQ (E5 := fun a => E5 a hs1) (K := K) (Z := Z) (mm hs1 J1)
  refine ⟨hs', fi', ar', ?_, J', by rw [hz]; exact M1.2.1.2, by rw [hz]; exact M1.2.2.1.2⟩
  rw [show E1 = rI w hs1 from e1, bI_rI]
  exact e
theorem CG.of {E : Option tRS} {v : Int} {c d : Nat} (h : ∃ hs', E = rI v hs' ∧ XO G (DD m) (NN hA m) hs'.1 x fC aC ∧ Mx (NN hA m) c d hs hs') (hc : c ≤ 31000) (hd : d ≤ 182000) : CG G hA x m E hs (.inr v) fC aC := by
  obtain ⟨hs', e, X, M⟩ := h
  exact ⟨hs', e, X, M.le hc hd⟩
theorem Lf_ex {s : tRow} (hD : Dm s) (hB : RB s) : ∃ L, Lf s L := by
  obtain ⟨a2, L, -, -, -, lf⟩ := e_findRegions (G := (⟨fun _ => 0, fun _ => none⟩ : tG)) (m := 0) (fi := fun _ => 0) (ar := fun _ => s) (g := fun _ => none) (z := (0, 0)) hD hB
  exact ⟨L, lf⟩
end STQ
