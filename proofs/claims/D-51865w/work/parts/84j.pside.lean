/-! ===== the component's parser: sides, straps ===== -/
section SD
variable {G : tG} {D D' M : Nat → Prop} {hs : tHS} {u xa ia n : Nat} {inp : Nat → Int} {tv : Value} {z : Nat}
/-- the present word against a constant -/
theorem c_wEq {p w a : Nat} {l : List Int} (st : ST D' hs.1 w (tkT inp n p - tkF inp n p) (fun j => inp (tkF inp n p + j))) (W : WD D hs.1 a l) (hl : l.length ≤ 10) (h1 : tkK inp n p = 1) (hn : n ≤ 600) (hp : p ≤ n) : t_Ev (t_pg G) t_hd Y_J3_equals 0 ([some (.ref w), some (.ref a), none], [], hs) = rB (wrd inp n p l) hs := by
  have hT := tkT_b (inp := inp) hp
  rw [c_sEq st W.1 (by omega) (by omega) (fun j hj => by have := tk_let h1 (j := tkF inp n p + j) (by omega) (by omega); omega) (fun j hj => W.at)]
  unfold wrd
  rw [decide_eq_true h1, Bool.true_and]
  by_cases d : tkT inp n p - tkF inp n p = l.length
  · rw [d]
  · rw [decide_eq_false d]; rfl
theorem c_sideOfWord {p : Nat} (hF : Fi hs) (k : TKc hs.1 u xa tv inp n p z) (h1 : tkK inp n p = 1) (hn : n ≤ 600) (hp : p ≤ n) (uz : u < z) (Wr : WD D hs.1 (G.1 43) wRight) (Wb : WD D hs.1 (G.1 25) wBelow) : ∃ w vq0 hv hz hs', z ≤ w ∧ hs.1 w = some (hwE vq0 (iI 0) (iI 0)) ∧ Mx (fun q => z ≤ q) 1 8 hs hs' ∧
    if sideS inp n p = -1 then PErr 1 (tkF inp n p) hs.2.1 (t_Ev (t_pg G) t_hd Y_X6_sideOfWord 0 ([some (.ref u), none, none], [], hs)) hs' else t_Ev (t_pg G) t_hd Y_X6_sideOfWord 0 ([some (.ref u), none, none], [], hs) = rI (sideS inp n p) hs' ∧ hs' = (t_up hs.1 w (hwE vq0 hv hz), hs.2) := by
  obtain ⟨w, vq0, hv, hz, va, zw, ew, eu, eh, st, m⟩ := c_wHash (G := G) hF k h1 hn hp
  obtain ⟨h2, e2⟩ : ∃ h2 : tHS, h2 = (t_up hs.1 w (hwE vq0 hv hz), hs.2) := ⟨_, rfl⟩
  have eu2 : h2.1 u = some (pcl tv (tkT inp n p) (tkF inp n p) 0 va w xa) := by rw [e2]; exact (t_up_n (by omega)).trans eu
  have ew2 : h2.1 w = some (hwE vq0 hv hz) := by rw [e2]; exact t_up_s
  have Wr2 : WD D h2.1 (G.1 43) wRight := by rw [e2]; exact Wr.hw ew
  have Wb2 : WD D h2.1 (G.1 25) wBelow := by rw [e2]; exact Wb.hw ew
  rw [← e2] at eh m
  have st2 : ST (fun q => z ≤ q) h2.1 w (tkT inp n p - tkF inp n p) (fun j => inp (tkF inp n p + j)) := by rw [e2]; exact st
  have qr := c_wEq (G := G) (hs := h2) st2 Wr2 (by decide) h1 hn hp
  have qb := c_wEq (G := G) (hs := h2) st2 Wb2 (by decide) h1 hn hp
  have n12 : (iI (-1) = iI 0) = False := by simp; decide
  have n11 : (iI (-1) = iI 1) = False := by simp; decide
  have n01 : (iI 0 = iI 1) = False := by simp; decide
  have z2 : h2.2.1 = hs.2.1 := by rw [e2]
  obtain ⟨h3, p3, x3⟩ := c_throw (G := G) (c := 1) m.2.2.2 eu2
  have pe : PErr 1 (tkF inp n p) hs.2.1 ((t_kN h2.1 (.ref u) 6).bind fun a_8 => bndR (t_Ev (t_pg G) t_hd Y_X6_error 0 ([some (.ref a_8), some (.int (iI 1))], [], h2)) (fun o_10 hs_9 => (t_obj hs_9.1 (va_rf o_10)).bind fun a_11 => some (.inr a_11, hs_9)) tX) h3 := by
    rw [kN_at eu2, Option.bind_some]
    exact p3.le (by omega)
  have m3 : Mx (fun q => z ≤ q) 1 8 hs h3 := (m.trans (x3.mono (fun q y => absurd y (fun y => y)) (Nat.le_refl _) (Nat.le_refl _))).le (by omega) (by omega)
  rw [b_X6_sideOfWord_0, gfR_at (k := 5) (q := w) eu rfl, Option.bind_some, va_rf_some, kN_at ew, Option.bind_some, eh, bI_rI, kN_at ew2]
  simp (maxSteps := 4000000) only [Option.bind_some, qr, qb, bI_rB, bB_0, n12, n11, n01, i10, if_false, if_true]
  unfold sideS
  cases cr : wrd inp n p wRight with
  | true =>
    have hh := wrd_hash cr
    have ne : ¬ iI (hI (fun j => inp (tkF inp n p + j)) (tkT inp n p - tkF inp n p)) = iI 93621297 := by rw [hh]; decide +kernel
    have eq : iI (hI (fun j => inp (tkF inp n p + j)) (tkT inp n p - tkF inp n p)) = iI 108511772 := by rw [hh]; decide +kernel
    refine ⟨w, vq0, hv, hz, h2, zw, ew, m.le (by omega) (by omega), ?_⟩
    rw [if_pos rfl, if_neg (by decide), if_neg ne, if_pos eq]
    exact ⟨rfl, e2⟩
  | false =>
  rw [if_neg (by decide)]
  cases cb : wrd inp n p wBelow with
  | true =>
    have hh := wrd_hash cb
    have eq : iI (hI (fun j => inp (tkF inp n p + j)) (tkT inp n p - tkF inp n p)) = iI 93621297 := by rw [hh]; decide +kernel
    refine ⟨w, vq0, hv, hz, h2, zw, ew, m.le (by omega) (by omega), ?_⟩
    rw [if_pos rfl, if_neg (by decide), if_pos eq]
    exact ⟨rfl, e2⟩
  | false =>
    refine ⟨w, vq0, hv, hz, h3, zw, ew, m3, ?_⟩
    rw [if_pos (show (if false = true then (1 : Int) else -1) = -1 from rfl)]
    by_cases c1 : iI (hI (fun j => inp (tkF inp n p + j)) (tkT inp n p - tkF inp n p)) = iI 93621297
    · rw [if_pos c1]; exact pe
    · rw [if_neg c1]
      by_cases c2 : iI (hI (fun j => inp (tkF inp n p + j)) (tkT inp n p - tkF inp n p)) = iI 108511772
      · rw [if_pos c2]; exact pe
      · rw [if_neg c2]; exact pe
end SD
