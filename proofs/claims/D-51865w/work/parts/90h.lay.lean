/-! ===== the first game, from its words ===== -/
def wLay : List Int := [116, 114, 117, 110, 107, 32, 53, 32, 52, 59, 32, 98, 108, 111, 99, 107, 32, 52, 32, 48, 59, 32, 98, 108, 111, 99, 107, 32, 48, 32, 51, 59, 32, 115, 116, 114, 97, 112, 32, 49, 32, 49, 32, 114, 105, 103, 104, 116, 59, 32, 115, 116, 114, 97, 112, 32, 50, 32, 50, 32, 98, 101, 108, 111, 119, 59, 32, 112, 108, 97, 121, 101, 114, 32, 97, 110, 110, 32, 50, 32, 50, 32, 49, 32, 49, 32, 49, 32, 49, 59, 32, 112, 108, 97, 121, 101, 114, 32, 98, 111, 98, 32, 49, 32, 51, 32, 49, 32, 48, 32, 49, 32, 50, 59]
def inLay : Nat → Int := fun j => wLay.getD j 0
/-- the row of the first game -/
def layT (j : Nat) : Int := (List.lookup j [(0, (5 : Int)), (1, 4), (6, 1), (7, 2), (8, 2), (9, 1), (10, 1), (11, 1), (12, 3), (13, 97), (14, 110), (15, 110), (20, 2), (21, 1), (22, 3), (23, 1), (25, 1), (26, 3), (27, 98), (28, 111), (29, 98), (37, 1), (57, 1), (106, 1), (179, 1)]).getD 0
def layB : Bool := match loadS inLay 114 (empS fun _ => 0) with
  | .inr a => (List.range 417).all fun j => decide (a.1 j = layT j)
  | .inl _ => false
theorem layB_ok : layB = true := by decide +kernel
theorem lay_ok : ∃ a, loadS inLay 114 (empS fun _ => 0) = .inr a ∧ ∀ j, j < 417 → a.1 j = layT j := by
  have h := layB_ok
  unfold layB at h
  cases e : loadS inLay 114 (empS fun _ => 0) with
  | inl q => rw [e] at h; exact absurd (show false = true from h) (by decide)
  | inr a =>
    rw [e] at h
    refine ⟨a, rfl, fun j hj => ?_⟩
    have := List.all_eq_true.mp h j (List.mem_range.mpr hj)
    exact of_decide_eq_true this
/-- the letters put so far -/
def preL (k : Nat) : Nat → Int := fun j => if j < k then wLay.getD j 0 else 0
theorem preL_s {k : Nat} : fU (preL k) k (wLay.getD k 0) = preL (k + 1) := by
  funext j
  unfold fU preL
  by_cases c : j = k
  · rw [if_pos c, if_pos (by omega), c]
  · rw [if_neg c]
    by_cases d : j < k
    · rw [if_pos d, if_pos (by omega)]
    · rw [if_neg d, if_neg (by omega)]
theorem preL_e : preL 114 = inLay := by
  funext j
  unfold preL inLay
  by_cases c : j < 114
  · rw [if_pos c]
  · rw [if_neg c, List.getD_eq_getElem?_getD, List.getElem?_eq_none (by show 114 ≤ j; omega)]
    rfl
theorem inLay_b : IB inLay := fun j => by
  by_cases c : j < 114
  · have h : ∀ j, j < 114 → 0 ≤ wLay.getD j 0 ∧ wLay.getD j 0 ≤ 255 := by decide +kernel
    exact h j c
  · rw [← preL_e]
    unfold preL
    rw [if_neg c]
    decide
section LAY
variable {G : tG} {m : Nat} {g : tAH} {z : Nat × Nat} {D : Nat → Prop}
theorem m_lays (W : Wds G m D g) (w : WD D g (G.1 53) wLay) : ∃ fi' ar', t_Ev (t_pg G) t_hd Y_X5_lays 0 ([some (.ref m), some (.ref (G.1 53)), none], [], (hM m f0M a0M g, z)) = rV (hM m fi' ar' g, z) ∧ Md fi' ar' ∧ (fi' 6 = 0 ∧ fi' 13 = 0 ∧ fi' 14 = 0 ∧ fi' 15 = 0 ∧ fi' 16 = -1) ∧ (∀ j, j < 417 → ar' 0 j = layT j) ∧ ∀ k, ar' 5 k = 0 := by
  have wm : ∀ f a, WD D (hM m f a g, z).1 (G.1 53) wLay := fun f a => w.hM W.ot
  have len : wLay.length = 114 := rfl
  have kN : ∀ f a, t_kN (hM m f a g) (.ref (G.1 53)) 11 = some (G.1 53) := fun f a => by
    obtain ⟨⟨d, b, hv, hz, vq, e1, -⟩, -⟩ := wm f a
    exact kN_at e1
  have lo := lp_up (N := 114) (F := fun k => t_Ev (t_pg G) t_hd Y_X5_lays 10 ([some (.ref m), some (.ref (G.1 53)), some (.int (iI (k : Int)))], [], (hM m (fU f0M 13 114) (aS a0M 8 (preL k)) g, z))) fun k hk => by
    have ch := c_sAt (G := G) (hs := (hM m (fU f0M 13 114) (aS a0M 8 (preL k)) g, z)) (wm _ _).1 (by rw [len]; decide) (j := k) (by rw [len]; exact hk) (wm (fU f0M 13 114) (aS a0M 8 (preL k))).at
    rw [b_X5_lays_10, mgI13, Option.bind_some, fU_s]
    simp (disch := omega) only [iI_lt]
    rw [if_pos (by omega), mgR8, Option.bind_some, kN, Option.bind_some, ch, bI_rI, va_rf_some, mst8 (by omega) (by omega), Option.bind_some, iI_add, aU_aS, Int.toNat_natCast, preL_s]
    rfl
  have ln := c_sLen (G := G) (hs := (hM m f0M a0M g, z)) (wm _ _).1
  obtain ⟨a, ha, ht⟩ := lay_ok
  have r0 : RB (aS a0M 8 inLay 0) := fun j => ⟨Int.le_refl 0, by show (0 : Int) ≤ 1000000; decide⟩
  obtain ⟨f1, a1, e1, p1⟩ := e_load (G := G) (m := m) (fi := fU f0M 13 114) (ar := aS a0M 8 inLay) (g := g) (z := z) W (n := 114) fU_s (by decide) (by rw [aS_s]; exact inLay_b) r0 ⟨Int.le_refl 0, by decide⟩
  rw [aS_s, show aS a0M 8 inLay 0 = fun _ => 0 from rfl, ha] at e1 p1
  obtain ⟨s, h7, h13, h15, h16, h6, h0, wf, h2⟩ := p1
  have e3 : a1 3 = fun _ => 0 := s.2 3 (by decide)
  have e5 : a1 5 = fun _ => 0 := s.2 5 (by decide)
  have e8 : a1 8 = inLay := (s.2 8 (by decide)).trans aS_s
  have f14 : f1 14 = 0 := s.1 14 (by decide)
  have rz : RB (fun _ => (0 : Int)) := fun j => ⟨Int.le_refl 0, show (0 : Int) ≤ 1000000 by decide⟩
  refine ⟨fU f1 6 0, a1, ?_, ⟨by rw [h0]; exact wf, by rw [h2]; exact remK_rb rz rz, by rw [e3]; exact rz, by rw [fU_s]; decide, by rw [fU_n (by decide), h13]; decide, by rw [e8]; exact inLay_b, fun k hk => by rw [fU_s] at hk; exact absurd hk (Nat.not_lt_zero k), fun k _ e => by rw [e5] at e; exact absurd (show (0 : Int) = 1 from e) (by decide), fun k _ => Or.inl (by rw [e5]), by rw [fU_n (by decide), f14]; decide, fun j hj => by rw [fU_n (by decide), f14] at hj; omega⟩, ⟨fU_s, (fU_n (by decide)).trans h13, (fU_n (by decide)).trans f14, (fU_n (by decide)).trans h15, (fU_n (by decide)).trans h16⟩, fun j hj => by rw [h0]; exact ht j hj, fun k => by rw [e5]⟩
  rw [b_X5_lays_0, kN, Option.bind_some, ln, bI_rI, len, mpI13, Option.bind_some]
  have s0 : hM m (fU f0M 13 ((114 : Nat) : Int)) a0M g = hM m (fU f0M 13 114) (aS a0M 8 (preL 0)) g := by
    have : preL 0 = a0M 8 := by
      funext j
      unfold preL
      rw [if_neg (Nat.not_lt_zero j)]
      rfl
    rw [this, aS_id]
    rfl
  rw [s0]
  refine Eq.trans lo ?_
  try dsimp only
  rw [preL_e, b_X5_lays_10, mgI13, Option.bind_some, fU_s]
  simp (disch := omega) only [iI_lt]
  rw [if_neg (by omega), mK, Option.bind_some, e1, bI_rI, mpI6, Option.bind_some]
  rfl
end LAY
