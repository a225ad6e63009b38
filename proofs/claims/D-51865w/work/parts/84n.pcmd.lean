/-! ===== the component's parser: a command's word ===== -/
def cmdI (inp : Nat → Int) (n p : Nat) : Int := if wrd inp n p wPlace = true then 0 else if wrd inp n p wStrap = true then 1 else if wrd inp n p wPass = true then 2 else -1
section CW
variable {G : tG} {D D' M : Nat → Prop} {hs : tHS} {u xa ia n : Nat} {inp : Nat → Int} {tv : Value} {z : Nat}
theorem c_cmdWord {p : Nat} (hF : Fi hs) (k : TKc hs.1 u xa tv inp n p z) (h1 : tkK inp n p = 1) (hn : n ≤ 600) (hp : p ≤ n) (W0 : WD D hs.1 (G.1 39) wPlace) (W1 : WD D hs.1 (G.1 49) wStrap) (W2 : WD D hs.1 (G.1 37) wPass) : ∃ w vq0 hv hz, z ≤ w ∧ hs.1 w = some (hwE vq0 (iI 0) (iI 0)) ∧ Mx (fun q => z ≤ q) 0 0 hs (t_up hs.1 w (hwE vq0 hv hz), hs.2) ∧ t_Ev (t_pg G) t_hd Y_X6_parseCommand 0 ([some (.ref u), none, none, none, none, none], [], hs) = t_Ev (t_pg G) t_hd Y_X6_parseCommand 83 ([some (.ref u), some (.ref w), some (.int (iI (cmdI inp n p))), none, none, none], [], (t_up hs.1 w (hwE vq0 hv hz), hs.2)) := by
  obtain ⟨w, vq0, hv, hz, va, zw, ew, eu, eh, st, m⟩ := c_wHash (G := G) hF k h1 hn hp
  refine ⟨w, vq0, hv, hz, zw, ew, m, ?_⟩
  obtain ⟨h2, e2⟩ : ∃ h2 : tHS, h2 = (t_up hs.1 w (hwE vq0 hv hz), hs.2) := ⟨_, rfl⟩
  have ew2 : h2.1 w = some (hwE vq0 hv hz) := by rw [e2]; exact t_up_s
  rw [← e2] at eh ⊢
  have st2 : ST (fun q => z ≤ q) h2.1 w (tkT inp n p - tkF inp n p) (fun j => inp (tkF inp n p + j)) := by rw [e2]; exact st
  have q0 := c_wEq (G := G) (hs := h2) st2 (by rw [e2]; exact W0.hw ew) (by decide) h1 hn hp
  have q1 := c_wEq (G := G) (hs := h2) st2 (by rw [e2]; exact W1.hw ew) (by decide) h1 hn hp
  have q2 := c_wEq (G := G) (hs := h2) st2 (by rw [e2]; exact W2.hw ew) (by decide) h1 hn hp
  rw [b_X6_parseCommand_0, gfR_at (k := 5) (q := w) eu rfl, Option.bind_some, va_rf_some, kN_at ew, Option.bind_some, eh, bI_rI, kN_at ew2]
  simp (maxSteps := 4000000) only [Option.bind_some, q0, q1, q2, bI_rB, bB_0]
  obtain ⟨H, hH⟩ : ∃ H, H = iI (hI (fun j => inp (tkF inp n p + j)) (tkT inp n p - tkF inp n p)) := ⟨_, rfl⟩
  rw [← hH]
  have g0 : wrd inp n p wPlace = true → H = iI 106748167 := fun c => by rw [hH, wrd_hash c]; decide +kernel
  have g1 : wrd inp n p wStrap = true → H = iI 109773344 := fun c => by rw [hH, wrd_hash c]; decide +kernel
  have g2 : wrd inp n p wPass = true → H = iI 3433489 := fun c => by rw [hH, wrd_hash c]; decide +kernel
  unfold cmdI
  by_cases c0 : wrd inp n p wPlace = true
  · rw [if_pos c0, g0 c0, c0, if_neg (by decide), if_pos rfl, if_neg (by decide)]
  by_cases c1 : wrd inp n p wStrap = true
  · rw [if_neg c0, if_pos c1, g1 c1, c1, if_neg (by decide), if_neg (by decide), if_pos rfl, if_neg (by decide)]
  by_cases c2 : wrd inp n p wPass = true
  · rw [if_neg c0, if_neg c1, if_pos c2, g2 c2, c2, if_pos rfl, if_neg (by decide)]
  rw [if_neg c0, if_neg c1, if_neg c2, Bool.eq_false_iff.mpr c0, Bool.eq_false_iff.mpr c1, Bool.eq_false_iff.mpr c2]
  simp only [if_true]
  repeat' split
  all_goals rfl
end CW
