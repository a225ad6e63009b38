/-! ===== the component's parser: shapes' words ===== -/
theorem shpS_no {inp : Nat → Int} {n p : Nat} (h : shpS inp n p = -1) : wrd inp n p wBar = false ∧ wrd inp n p wElbow = false ∧ wrd inp n p wRod = false ∧ wrd inp n p wSquare = false ∧ wrd inp n p wCorner = false := by
  unfold shpS at h
  cases c1 : wrd inp n p wBar with
  | true => rw [c1, if_pos rfl] at h; cases h
  | false =>
  cases c2 : wrd inp n p wElbow with
  | true => rw [c1, c2, if_neg (by decide), if_pos rfl] at h; cases h
  | false =>
  cases c3 : wrd inp n p wRod with
  | true => rw [c1, c2, c3, if_neg (by decide), if_neg (by decide), if_pos rfl] at h; cases h
  | false =>
  cases c4 : wrd inp n p wSquare with
  | true => rw [c1, c2, c3, c4, if_neg (by decide), if_neg (by decide), if_neg (by decide), if_pos rfl] at h; cases h
  | false =>
  cases c5 : wrd inp n p wCorner with
  | true => rw [c1, c2, c3, c4, c5, if_neg (by decide), if_neg (by decide), if_neg (by decide), if_neg (by decide), if_pos rfl] at h; cases h
  | false => exact ⟨rfl, rfl, rfl, rfl, rfl⟩
section SH
variable {G : tG} {D D' M : Nat → Prop} {hs : tHS} {u xa ia n : Nat} {inp : Nat → Int} {tv : Value} {z : Nat}
theorem c_shapeOfWord {p : Nat} (hF : Fi hs) (k : TKc hs.1 u xa tv inp n p z) (h1 : tkK inp n p = 1) (hn : n ≤ 600) (hp : p ≤ n) (uz : u < z) (W0 : WD D hs.1 (G.1 23) wBar) (W1 : WD D hs.1 (G.1 33) wElbow) (W2 : WD D hs.1 (G.1 45) wRod) (W3 : WD D hs.1 (G.1 47) wSquare) (W4 : WD D hs.1 (G.1 31) wCorner) : ∃ w vq0 hv hz hs', z ≤ w ∧ hs.1 w = some (hwE vq0 (iI 0) (iI 0)) ∧ Mx (fun q => z ≤ q) 1 8 hs hs' ∧
    if shpS inp n p = -1 then PErr 1 (tkF inp n p) hs.2.1 (t_Ev (t_pg G) t_hd Y_X6_shapeOfWord 0 ([some (.ref u), none, none], [], hs)) hs' else t_Ev (t_pg G) t_hd Y_X6_shapeOfWord 0 ([some (.ref u), none, none], [], hs) = rR (some (G.1 (shpS inp n p).toNat)) hs' ∧ hs' = (t_up hs.1 w (hwE vq0 hv hz), hs.2) := by
  obtain ⟨w, vq0, hv, hz, va, zw, ew, eu, eh, st, m⟩ := c_wHash (G := G) hF k h1 hn hp
  obtain ⟨h2, e2⟩ : ∃ h2 : tHS, h2 = (t_up hs.1 w (hwE vq0 hv hz), hs.2) := ⟨_, rfl⟩
  have eu2 : h2.1 u = some (pcl tv (tkT inp n p) (tkF inp n p) 0 va w xa) := by rw [e2]; exact (t_up_n (by omega)).trans eu
  have ew2 : h2.1 w = some (hwE vq0 hv hz) := by rw [e2]; exact t_up_s
  rw [← e2] at eh m
  have st2 : ST (fun q => z ≤ q) h2.1 w (tkT inp n p - tkF inp n p) (fun j => inp (tkF inp n p + j)) := by rw [e2]; exact st
  have q0 := c_wEq (G := G) (hs := h2) st2 (by rw [e2]; exact W0.hw ew) (by decide) h1 hn hp
  have q1 := c_wEq (G := G) (hs := h2) st2 (by rw [e2]; exact W1.hw ew) (by decide) h1 hn hp
  have q2 := c_wEq (G := G) (hs := h2) st2 (by rw [e2]; exact W2.hw ew) (by decide) h1 hn hp
  have q3 := c_wEq (G := G) (hs := h2) st2 (by rw [e2]; exact W3.hw ew) (by decide) h1 hn hp
  have q4 := c_wEq (G := G) (hs := h2) st2 (by rw [e2]; exact W4.hw ew) (by decide) h1 hn hp
  have z2 : h2.2.1 = hs.2.1 := by rw [e2]
  obtain ⟨h3, p3, x3⟩ := c_throw (G := G) (c := 1) m.2.2.2 eu2
  have m3 : Mx (fun q => z ≤ q) 1 8 hs h3 := (m.trans (x3.mono (fun q y => absurd y (fun y => y)) (Nat.le_refl _) (Nat.le_refl _))).le (by omega) (by omega)
  have pe : PErr 1 (tkF inp n p) hs.2.1 (t_Ev (t_pg G) t_hd Y_X6_shapeOfWord 127 ([some (.ref u), some (.ref w), some (.int (iI (-1)))], [], h2)) h3 := by
    rw [b_X6_shapeOfWord_127, if_neg (by decide), if_neg (by decide), if_neg (by decide), if_neg (by decide), if_neg (by decide), kN_at eu2, Option.bind_some]
    exact p3.le (by omega)
  have t0 : t_Ev (t_pg G) t_hd Y_X6_shapeOfWord 127 ([some (.ref u), some (.ref w), some (.int (iI 0))], [], h2) = rR (some (G.1 0)) h2 := by rw [b_X6_shapeOfWord_127, if_pos rfl]; rfl
  have t1 : t_Ev (t_pg G) t_hd Y_X6_shapeOfWord 127 ([some (.ref u), some (.ref w), some (.int (iI 1))], [], h2) = rR (some (G.1 1)) h2 := by rw [b_X6_shapeOfWord_127, if_neg (by decide), if_pos rfl]; rfl
  have t2 : t_Ev (t_pg G) t_hd Y_X6_shapeOfWord 127 ([some (.ref u), some (.ref w), some (.int (iI 2))], [], h2) = rR (some (G.1 2)) h2 := by rw [b_X6_shapeOfWord_127, if_neg (by decide), if_neg (by decide), if_pos rfl]; rfl
  have t3 : t_Ev (t_pg G) t_hd Y_X6_shapeOfWord 127 ([some (.ref u), some (.ref w), some (.int (iI 3))], [], h2) = rR (some (G.1 3)) h2 := by rw [b_X6_shapeOfWord_127, if_neg (by decide), if_neg (by decide), if_neg (by decide), if_pos rfl]; rfl
  have t4 : t_Ev (t_pg G) t_hd Y_X6_shapeOfWord 127 ([some (.ref u), some (.ref w), some (.int (iI 4))], [], h2) = rR (some (G.1 4)) h2 := by rw [b_X6_shapeOfWord_127, if_neg (by decide), if_neg (by decide), if_neg (by decide), if_neg (by decide), if_pos rfl]; rfl
  rw [b_X6_shapeOfWord_0, gfR_at (k := 5) (q := w) eu rfl, Option.bind_some, va_rf_some, kN_at ew, Option.bind_some, eh, bI_rI, kN_at ew2]
  simp (maxSteps := 4000000) only [Option.bind_some, q0, q1, q2, q3, q4, bI_rB, bB_0]
  obtain ⟨H, hH⟩ : ∃ H, H = iI (hI (fun j => inp (tkF inp n p + j)) (tkT inp n p - tkF inp n p)) := ⟨_, rfl⟩
  rw [← hH]
  have g0 : wrd inp n p wBar = true → H = iI 97299 := fun c => by rw [hH, wrd_hash c]; decide +kernel
  have g1 : wrd inp n p wElbow = true → H = iI 96590787 := fun c => by rw [hH, wrd_hash c]; decide +kernel
  have g2 : wrd inp n p wRod = true → H = iI 113095 := fun c => by rw [hH, wrd_hash c]; decide +kernel
  have g3 : wrd inp n p wSquare = true → H = iI (-894674659) := fun c => by rw [hH, wrd_hash c]; decide +kernel
  have g4 : wrd inp n p wCorner = true → H = iI (-1354665387) := fun c => by rw [hH, wrd_hash c]; decide +kernel
  by_cases cs : shpS inp n p = -1
  · obtain ⟨n0, n1, n2, n3, n4⟩ := shpS_no cs
    refine ⟨w, vq0, hv, hz, h3, zw, ew, m3, ?_⟩
    rw [if_pos cs, n0, n1, n2, n3, n4]
    simp only [if_true]
    repeat' split
    all_goals exact pe
  · refine ⟨w, vq0, hv, hz, h2, zw, ew, m.le (by omega) (by omega), ?_⟩
    rw [if_neg cs]
    refine ⟨?_, e2⟩
    unfold shpS at cs ⊢
    by_cases c0 : wrd inp n p wBar = true
    · rw [if_pos c0, g0 c0, c0, if_neg (by decide), if_neg (by decide), if_pos rfl, if_neg (by decide)]
      exact t0
    rw [if_neg c0] at cs ⊢
    by_cases c1 : wrd inp n p wElbow = true
    · rw [if_pos c1, g1 c1, c1, if_neg (by decide), if_neg (by decide), if_neg (by decide), if_neg (by decide), if_pos rfl, if_neg (by decide)]
      exact t1
    rw [if_neg c1] at cs ⊢
    by_cases c2 : wrd inp n p wRod = true
    · rw [if_pos c2, g2 c2, c2, if_neg (by decide), if_neg (by decide), if_neg (by decide), if_pos rfl, if_neg (by decide)]
      exact t2
    rw [if_neg c2] at cs ⊢
    by_cases c3 : wrd inp n p wSquare = true
    · rw [if_pos c3, g3 c3, c3, if_neg (by decide), if_pos rfl, if_neg (by decide)]
      exact t3
    rw [if_neg c3] at cs ⊢
    by_cases c4 : wrd inp n p wCorner = true
    · rw [if_pos c4, g4 c4, c4, if_pos rfl, if_neg (by decide)]
      exact t4
    · rw [if_neg c4] at cs
      exact absurd rfl cs
end SH
