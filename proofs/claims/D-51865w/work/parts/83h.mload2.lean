/-- an emptied row -/
def empS (s : tRow) : tRow := fun j => if j < 417 then 0 else s j
def retL (r : (Int × Nat) ⊕ (tRow × Int)) : Int := match r with
  | .inl _ => -1
  | .inr a => emA a.1
theorem emA_b {s : tRow} (d : Dm s) : 0 ≤ emA s ∧ emA s ≤ 64 := by
  have d1 := d.2
  unfold emA
  have a := sm_ge (f := fun y : Nat => emi s y) (n := (s 1).toNat) fun y _ => (emi_b d).1
  have b := sm_le (f := fun y : Nat => emi s y) (c := 8) (n := (s 1).toNat) fun y _ => (emi_b d).2
  omega
section MM
variable {G : tG} {m : Nat} {fi : Nat → Int} {ar : Nat → Nat → Int} {g : tAH} {z : Nat × Nat} {D : Nat → Prop}
theorem e_players (W : Wds G m D g) {n p : Nat} (k : Pk fi ar n p) (w : W0 (ar 0)) : ∃ (fi' : Nat → Int) (ar' : Nat → Nat → Int) (j : Nat), t_Ev (t_pg G) t_hd Y_X5_load 130 ([some (.ref m), some (.int (iI 0))], [], (hM m fi ar g, z)) = t_Ev (t_pg G) t_hd Y_X5_load 130 ([some (.ref m), some (.int (iI (j : Int)))], [], (hM m fi' ar' g, z)) ∧ Sc PI PJ fi ar fi' ar' ∧ Res (thS (playerS (ar 8) n 0 (ar 0) p) fun d => playerS (ar 8) n 1 d.1 d.2) fi' ar' n ∧ (j = 2 ∨ fi' 22 = 1 ∧ j ≤ 2) ∧ ∀ s' q, (thS (playerS (ar 8) n 0 (ar 0) p) fun d => playerS (ar 8) n 1 d.1 d.2) = .inr (s', q) → W0 s' := by
  obtain ⟨f1, a1, e1, s1, r1⟩ := e_playerTold (G := G) (m := m) (g := g) (z := z) W w.rb k (q := 0) (Or.inl rfl)
  have x1 : t_Ev (t_pg G) t_hd Y_X5_load 130 ([some (.ref m), some (.int (iI 0))], [], (hM m fi ar g, z)) = t_Ev (t_pg G) t_hd Y_X5_load 130 ([some (.ref m), some (.int (iI 1))], [], (hM m f1 a1 g, z)) := by
    rw [b_X5_load_130, if_pos (by decide)]
    simp only [mK, mgI6, mgI7, mgI13, mgI14, mgI15, mgI16, mgI17, mgI18, mgI19, mgI20, mgI21, mgI22, mgI23, mgI24, mgI25, mgI26, mgI27, mgR0, mgR1, mgR2, mgR3, mgR4, mgR5, mgR8, mgR9, mgR10, mgR11, mgR12, Option.bind_some, va_rf_some, va_rf_none, bI_rI, bI_rB, bV_rV, bB_0, bB_1, iI_add, iI_sub, iI_mul, iI_neg, rI_of, rV_of, Int.reduceToNat, Int.neg_neg, k.h22, if_true]
    rw [e1, bV_rV]
    rfl
  have e8 : a1 8 = ar 8 := s1.2 8 (by decide)
  cases hc : playerS (ar 8) n 0 (ar 0) p with
  | inl e =>
    rw [hc] at r1
    exact ⟨f1, a1, 1, x1, s1, r1, Or.inr ⟨r1.1, by decide⟩, fun s' q h => by cases h⟩
  | inr q =>
    obtain ⟨s', q⟩ := q
    rw [hc] at r1
    have ok := playerS_ok (Or.inl rfl) k.hp w hc
    have w1 : W0 (a1 0) := by rw [r1.1]; exact ok.1
    obtain ⟨f2, a2, e2, s2, r2⟩ := e_playerTold (G := G) (m := m) (g := g) (z := z) W w1.rb r1.2 (q := 1) (Or.inr rfl)
    rw [e8, r1.1] at r2
    refine ⟨f2, a2, 2, ?_, s1.trans s2, r2, Or.inl rfl, fun s'' q' h => (playerS_ok (Or.inr rfl) ok.2.2 ok.1 h).1⟩
    rw [x1, b_X5_load_130, if_pos (by decide)]
    simp only [mK, mgI6, mgI7, mgI13, mgI14, mgI15, mgI16, mgI17, mgI18, mgI19, mgI20, mgI21, mgI22, mgI23, mgI24, mgI25, mgI26, mgI27, mgR0, mgR1, mgR2, mgR3, mgR4, mgR5, mgR8, mgR9, mgR10, mgR11, mgR12, Option.bind_some, va_rf_some, va_rf_none, bI_rI, bI_rB, bV_rV, bB_0, bB_1, iI_add, iI_sub, iI_mul, iI_neg, rI_of, rV_of, Int.reduceToNat, Int.neg_neg, r1.2.h22, if_true]
    rw [e2, bV_rV]
    rfl
theorem e_lw80 (h : fi 22 = 1) : t_Ev (t_pg G) t_hd Y_X5_load 80 ([some (.ref m), some (.int (iI 417))], [], (hM m fi ar g, z)) = t_Ev (t_pg G) t_hd Y_X5_load 130 ([some (.ref m), some (.int (iI 0))], [], (hM m fi ar g, z)) := by
  rw [b_X5_load_80]
  simp only [mK, mgI6, mgI7, mgI13, mgI14, mgI15, mgI16, mgI17, mgI18, mgI19, mgI20, mgI21, mgI22, mgI23, mgI24, mgI25, mgI26, mgI27, mgR0, mgR1, mgR2, mgR3, mgR4, mgR5, mgR8, mgR9, mgR10, mgR11, mgR12, Option.bind_some, va_rf_some, va_rf_none, bI_rI, bI_rB, bV_rV, bB_0, bB_1, iI_add, iI_sub, iI_mul, iI_neg, rI_of, rV_of, Int.reduceToNat, Int.neg_neg, h]
  rw [if_neg (by decide), b_X5_load_104]
  simp only [mK, mgI6, mgI7, mgI13, mgI14, mgI15, mgI16, mgI17, mgI18, mgI19, mgI20, mgI21, mgI22, mgI23, mgI24, mgI25, mgI26, mgI27, mgR0, mgR1, mgR2, mgR3, mgR4, mgR5, mgR8, mgR9, mgR10, mgR11, mgR12, Option.bind_some, va_rf_some, va_rf_none, bI_rI, bI_rB, bV_rV, bB_0, bB_1, iI_add, iI_sub, iI_mul, iI_neg, rI_of, rV_of, Int.reduceToNat, Int.neg_neg, h]
  rw [if_neg (by decide)]
theorem e_lw104 (h : fi 22 = 1) : t_Ev (t_pg G) t_hd Y_X5_load 104 ([some (.ref m), some (.int (iI 417))], [], (hM m fi ar g, z)) = t_Ev (t_pg G) t_hd Y_X5_load 130 ([some (.ref m), some (.int (iI 0))], [], (hM m fi ar g, z)) := by
  rw [b_X5_load_104]
  simp only [mK, mgI6, mgI7, mgI13, mgI14, mgI15, mgI16, mgI17, mgI18, mgI19, mgI20, mgI21, mgI22, mgI23, mgI24, mgI25, mgI26, mgI27, mgR0, mgR1, mgR2, mgR3, mgR4, mgR5, mgR8, mgR9, mgR10, mgR11, mgR12, Option.bind_some, va_rf_some, va_rf_none, bI_rI, bI_rB, bV_rV, bB_0, bB_1, iI_add, iI_sub, iI_mul, iI_neg, rI_of, rV_of, Int.reduceToNat, Int.neg_neg, h]
  rw [if_neg (by decide)]
theorem e_setup (W : Wds G m D g) {n : Nat} (k : Pk fi ar n 0) (z0 : ∀ j, j < 417 → ar 0 j = 0) : ∃ (fi' : Nat → Int) (ar' : Nat → Nat → Int) (j : Nat), t_Ev (t_pg G) t_hd Y_X5_load 42 ([some (.ref m), some (.int (iI 417))], [.int (iI (bB (!wrd (ar 8) n 0 wTrunk))), (.ref m)], (hM m fi ar g, z)) = t_Ev (t_pg G) t_hd Y_X5_load 130 ([some (.ref m), some (.int (iI (j : Int)))], [], (hM m fi' ar' g, z)) ∧ Sc PI PJ fi ar fi' ar' ∧ Res (setS (ar 8) n (ar 0)) fi' ar' n ∧ (j = 2 ∨ fi' 22 = 1 ∧ j ≤ 2) ∧ ∀ s' q, setS (ar 8) n (ar 0) = .inr (s', q) → W0 s' := by
  obtain ⟨f1, a1, e1, s1, r1⟩ := e_head (G := G) (m := m) (g := g) (z := z) W k (b := k.tk)
  rw [e1]
  have e8 : a1 8 = ar 8 := s1.2 8 (by decide)
  unfold setS
  cases hc : headS (ar 8) n (ar 0) with
  | inl e =>
    rw [hc] at r1
    exact ⟨f1, a1, 0, e_lw80 r1.1, s1, r1, Or.inr ⟨r1.1, by decide⟩, fun s' q h => by cases h⟩
  | inr q =>
    obtain ⟨s', q⟩ := q
    rw [hc] at r1
    obtain ⟨w, hq⟩ := headS_ok z0 k.hb hc
    obtain ⟨f2, a2, e2, s2, r2, w2⟩ := e_blocks (G := G) (m := m) (g := g) (z := z) W (n + 1) (p := q) (by omega) r1.2 (by rw [r1.1]; exact w)
    rw [e8, r1.1] at r2 w2
    rw [e2]
    have e8' : a2 8 = ar 8 := (s2.2 8 (by decide)).trans e8
    show ∃ (fi' : Nat → Int) (ar' : Nat → Nat → Int) (j : Nat), _ ∧ _ ∧ Res (thS (blocksS (ar 8) n (n + 1) s' q) fun b => thS (edgesS (ar 8) n (n + 1) b.1 b.2) fun c => thS (playerS (ar 8) n 0 c.1 c.2) fun d => playerS (ar 8) n 1 d.1 d.2) fi' ar' n ∧ _ ∧ ∀ s'' q', (thS (blocksS (ar 8) n (n + 1) s' q) fun b => thS (edgesS (ar 8) n (n + 1) b.1 b.2) fun c => thS (playerS (ar 8) n 0 c.1 c.2) fun d => playerS (ar 8) n 1 d.1 d.2) = .inr (s'', q') → W0 s''
    cases hb : blocksS (ar 8) n (n + 1) s' q with
    | inl e =>
      rw [hb] at r2
      exact ⟨f2, a2, 0, e_lw104 r2.1, s1.trans s2, r2, Or.inr ⟨r2.1, by decide⟩, fun s' q h => by cases h⟩
    | inr b =>
      obtain ⟨sb, qb⟩ := b
      rw [hb] at r2
      have wb := w2 sb qb hb
      have hp2 := r2.2.hp
      obtain ⟨f3, a3, e3, s3, r3, w3⟩ := e_edges (G := G) (m := m) (g := g) (z := z) W (n + 1) (p := qb) (by omega) r2.2 (by rw [r2.1]; exact wb)
      rw [e8', r2.1] at r3 w3
      rw [e3]
      have e8'' : a3 8 = ar 8 := (s3.2 8 (by decide)).trans e8'
      show ∃ (fi' : Nat → Int) (ar' : Nat → Nat → Int) (j : Nat), _ ∧ _ ∧ Res (thS (edgesS (ar 8) n (n + 1) sb qb) fun c => thS (playerS (ar 8) n 0 c.1 c.2) fun d => playerS (ar 8) n 1 d.1 d.2) fi' ar' n ∧ _ ∧ ∀ s'' q', (thS (edgesS (ar 8) n (n + 1) sb qb) fun c => thS (playerS (ar 8) n 0 c.1 c.2) fun d => playerS (ar 8) n 1 d.1 d.2) = .inr (s'', q') → W0 s''
      cases hd : edgesS (ar 8) n (n + 1) sb qb with
      | inl e =>
        rw [hd] at r3
        exact ⟨f3, a3, 0, rfl, (s1.trans s2).trans s3, r3, Or.inr ⟨r3.1, by decide⟩, fun s' q h => by cases h⟩
      | inr c =>
        obtain ⟨sc, qc⟩ := c
        rw [hd] at r3
        have wc := w3 sc qc hd
        obtain ⟨f4, a4, j, e4, s4, r4, j4, w4⟩ := e_players (G := G) (m := m) (g := g) (z := z) W r3.2 (by rw [r3.1]; exact wc)
        rw [e8'', r3.1] at r4 w4
        exact ⟨f4, a4, j, e4, ((s1.trans s2).trans s3).trans s4, r4, j4, w4⟩
theorem e_load130 {fi' : Nat → Int} {ar' : Nat → Nat → Int} {v : Int} {j : Nat} (hcm : t_Ev (t_pg G) t_hd Y_X5_commands 2 ([some (.ref m), some (.int (iI 0))], [], (hM m fi ar g, z)) = rI v (hM m fi' ar' g, z)) (hj : j = 2 ∨ fi 22 = 1 ∧ j ≤ 2) (hv : -1 ≤ v ∧ v ≤ 10000) (hd : v ≠ -1 → Dm (ar' 0) ∧ RB (ar' 0)) : t_Ev (t_pg G) t_hd Y_X5_load 130 ([some (.ref m), some (.int (iI (j : Int)))], [], (hM m fi ar g, z)) = if v = -1 then rI (-1) (hM m fi' ar' g, z) else rI (emA (ar' 0)) (hM m fi' ar' g, z) := by
  have t : bndI (t_Ev (t_pg G) t_hd Y_X5_commands 0 ([some (.ref m), none], [], (hM m fi ar g, z))) (fun x_6 hs_5 => if x_6 = (iI (-1)) then some (.inl (some (.int (iI (-1)))), hs_5) else (t_kN hs_5.1 (.ref m) 1).bind fun a_7 => bndI (t_Ev (t_pg G) t_hd Y_X5_allEmpty 0 ([some (.ref a_7), none, none], [], hs_5)) (fun x_9 hs_8 => some (.inl (some (.int x_9)), hs_8)) tX) tX = if v = -1 then rI (-1) (hM m fi' ar' g, z) else rI (emA (ar' 0)) (hM m fi' ar' g, z) := by
    rw [b_X5_commands_0]
    have hcm' : t_Ev (t_pg G) t_hd Y_X5_commands 2 ([some (.ref m), some (.int (iI 0))], [], (hM m fi ar g, z)) = rI v (hM m fi' ar' g, z) := hcm
    rw [hcm', bI_rI]
    simp (disch := omega) only [iI_inj]
    by_cases c : v = -1
    · rw [if_pos c, if_pos c]; rfl
    · obtain ⟨d1, d2⟩ := hd c
      rw [if_neg c, if_neg c]
      simp only [mK, mgI6, mgI7, mgI13, mgI14, mgI15, mgI16, mgI17, mgI18, mgI19, mgI20, mgI21, mgI22, mgI23, mgI24, mgI25, mgI26, mgI27, mgR0, mgR1, mgR2, mgR3, mgR4, mgR5, mgR8, mgR9, mgR10, mgR11, mgR12, Option.bind_some, va_rf_some, va_rf_none, bI_rI, bI_rB, bV_rV, bB_0, bB_1, iI_add, iI_sub, iI_mul, iI_neg, rI_of, rV_of, Int.reduceToNat, Int.neg_neg]
      rw [e_allEmpty d1 d2, bI_rI]
      rfl
  rw [b_X5_load_130]
  simp (disch := omega) only [iI_lt]
  by_cases c2 : (j : Int) < 2
  · have h22 : fi 22 = 1 := by
      rcases hj with h | h
      · omega
      · exact h.1
    rw [if_pos c2]
    simp only [mK, mgI6, mgI7, mgI13, mgI14, mgI15, mgI16, mgI17, mgI18, mgI19, mgI20, mgI21, mgI22, mgI23, mgI24, mgI25, mgI26, mgI27, mgR0, mgR1, mgR2, mgR3, mgR4, mgR5, mgR8, mgR9, mgR10, mgR11, mgR12, Option.bind_some, h22]
    rw [if_neg (by decide)]
    exact t
  · rw [if_neg c2]
    simp only [mK, mgI6, mgI7, mgI13, mgI14, mgI15, mgI16, mgI17, mgI18, mgI19, mgI20, mgI21, mgI22, mgI23, mgI24, mgI25, mgI26, mgI27, mgR0, mgR1, mgR2, mgR3, mgR4, mgR5, mgR8, mgR9, mgR10, mgR11, mgR12, Option.bind_some]
    exact t
theorem e_load (W : Wds G m D g) {n : Nat} (h13 : fi 13 = n) (hn : n ≤ 600) (hI : IB (ar 8)) (hb : RB (ar 0)) (h6 : 0 ≤ fi 6 ∧ fi 6 ≤ 8) : ∃ fi' ar', t_Ev (t_pg G) t_hd Y_X5_load 0 ([some (.ref m), none], [], (hM m fi ar g, z)) = rI (retL (loadS (ar 8) n (empS (ar 0)))) (hM m fi' ar' g, z) ∧ PlyR (loadS (ar 8) n (empS (ar 0))) fi ar fi' ar' := by
  obtain ⟨f1, e1, s1, t1, k1⟩ := e_starts (G := G) (m := m) (g := g) (z := z) h13 hn hI hb
  obtain ⟨a, ha⟩ : ∃ a, a = aS ar 4 (va_cpy (ar 0) (ar 4) 0 0 417) := ⟨_, rfl⟩
  rw [← ha] at e1 s1 k1
  have a8 : a 8 = ar 8 := by rw [ha]; exact aS_n (by decide)
  have a0 : a 0 = ar 0 := by rw [ha]; exact aS_n (by decide)
  have a4 : a 4 = va_cpy (ar 0) (ar 4) 0 0 417 := by rw [ha]; exact aS_s
  -- the row emptied
  have lo : t_Ev (t_pg G) t_hd Y_X5_load 6 ([some (.ref m), some (.int (iI 0))], [], (hM m f1 a g, z)) = t_Ev (t_pg G) t_hd Y_X5_load 6 ([some (.ref m), some (.int (iI 417))], [], (hM m f1 (aS a 0 (empS (ar 0))) g, z)) := by
    have := lp_up (N := 417) (F := fun k => t_Ev (t_pg G) t_hd Y_X5_load 6 ([some (.ref m), some (.int (iI (k : Int)))], [], (hM m f1 (aS a 0 (fun j => if j < k then 0 else ar 0 j)) g, z))) fun k hk => by
      rw [b_X5_load_6]
      simp (disch := omega) only [iI_lt]
      rw [if_pos (by omega)]
      simp (disch := omega) only [mK, mgI6, mgI7, mgI13, mgI14, mgI15, mgI16, mgI17, mgI18, mgI19, mgI20, mgI21, mgI22, mgI23, mgI24, mgI25, mgI26, mgI27, mgR0, mgR1, mgR2, mgR3, mgR4, mgR5, mgR8, mgR9, mgR10, mgR11, mgR12, Option.bind_some, va_rf_some, va_rf_none, bI_rI, bI_rB, bV_rV, bB_0, bB_1, iI_add, iI_sub, iI_mul, iI_neg, rI_of, rV_of, Int.reduceToNat, Int.neg_neg, mst0, Int.toNat_natCast]
      refine congrArg (fun q => t_Ev (t_pg G) t_hd Y_X5_load 6 ([some (.ref m), some (.int (iI ((k : Int) + 1)))], [], (hM m f1 q g, z))) ?_
      funext k'
      unfold aU aS
      by_cases c : k' = 0
      · rw [if_pos c, if_pos c, c, if_pos rfl]
        funext j
        unfold fU
        by_cases d : j = k
        · rw [if_pos d, if_pos (by omega)]
        · rw [if_neg d]
          try dsimp only
          by_cases e : j < k
          · rw [if_pos e, if_pos (by omega)]
          · rw [if_neg e, if_neg (by omega)]
      · rw [if_neg c, if_neg c, if_neg c]
    have q : aS a 0 (fun j => if j < 0 then 0 else ar 0 j) = a := by
      funext k'
      unfold aS
      by_cases c : k' = 0
      · rw [if_pos c, c, a0]
        funext j
        exact if_neg (Nat.not_lt_zero j)
      · rw [if_neg c]
    have this : t_Ev (t_pg G) t_hd Y_X5_load 6 ([some (.ref m), some (.int (iI 0))], [], (hM m f1 (aS a 0 (fun j => if j < 0 then 0 else ar 0 j)) g, z)) = t_Ev (t_pg G) t_hd Y_X5_load 6 ([some (.ref m), some (.int (iI 417))], [], (hM m f1 (aS a 0 (empS (ar 0))) g, z)) := this
    rw [q] at this
    exact this
  obtain ⟨b, hB⟩ : ∃ b, b = aS a 0 (empS (ar 0)) := ⟨_, rfl⟩
  rw [← hB] at lo
  have b8 : b 8 = ar 8 := by rw [hB]; exact (aS_n (by decide)).trans a8
  have b0 : b 0 = empS (ar 0) := by rw [hB]; exact aS_s
  have b4 : b 4 = va_cpy (ar 0) (ar 4) 0 0 417 := by rw [hB]; exact (aS_n (by decide)).trans a4
  have rbE : RB (empS (ar 0)) := fun j => by
    unfold empS
    split
    · exact ⟨Int.le_refl 0, by decide⟩
    · exact hb j
  have sb : Sc (7 :: PI) (4 :: PJ) fi ar f1 b := by
    rw [hB]
    exact (s1.mono (by decide) (by decide)).aS (by decide)
  have k2 : Pk f1 b n 0 := k1.cg (I := []) (A := [0]) (by rw [hB]; exact Sc.refl.aS (by decide)) (fun _ _ h => nomatch h) (by decide) (by rw [b0]; exact rbE)
  obtain ⟨f3, a3, j, e3, s3, r3, j3, w3⟩ := e_setup (G := G) (m := m) (g := g) (z := z) W k2 (by rw [b0]; exact fun j hj => if_pos hj)
  rw [b8, b0] at r3 w3
  rw [b8] at e3
  -- the commands
  have main : ∃ fi' ar', t_Ev (t_pg G) t_hd Y_X5_commands 2 ([some (.ref m), some (.int (iI 0))], [], (hM m f3 a3 g, z)) = rI (retS (loadS (ar 8) n (empS (ar 0)))) (hM m fi' ar' g, z) ∧ PlyR (loadS (ar 8) n (empS (ar 0))) fi ar fi' ar' := by
    have sc3 := sb.trans (s3.mono (by decide) (by decide))
    have h73 : f3 7 = 0 := (s3.1 7 (by decide)).trans t1
    have a34 : a3 4 = va_cpy (ar 0) (ar 4) 0 0 417 := (s3.2 4 (by decide)).trans b4
    have a38 : a3 8 = ar 8 := (s3.2 8 (by decide)).trans b8
    unfold loadS
    cases hc : setS (ar 8) n (empS (ar 0)) with
    | inl e =>
      rw [hc] at r3
      obtain ⟨f5, a5, e5, r5⟩ := e_com26 (G := G) (m := m) (fi := f3) (ar := a3) (g := g) (z := z) (r := .inl e) (c := 0) (f0 := fi) (a0 := ar) sc3 h73 h6 (fun j hj => by rw [a34]; exact cpy_0 hj) hb r3
      refine ⟨f5, a5, ?_, r5⟩
      rw [b_X5_commands_2]
      simp only [mK, mgI6, mgI7, mgI13, mgI14, mgI15, mgI16, mgI17, mgI18, mgI19, mgI20, mgI21, mgI22, mgI23, mgI24, mgI25, mgI26, mgI27, mgR0, mgR1, mgR2, mgR3, mgR4, mgR5, mgR8, mgR9, mgR10, mgR11, mgR12, Option.bind_some, va_rf_some, va_rf_none, bI_rI, bI_rB, bV_rV, bB_0, bB_1, iI_add, iI_sub, iI_mul, iI_neg, rI_of, rV_of, Int.reduceToNat, Int.neg_neg, r3.1]
      rw [if_neg (by decide), e5]
      rfl
    | inr q =>
      obtain ⟨s', q⟩ := q
      rw [hc] at r3
      have w0 := w3 s' q hc
      obtain ⟨f4, a4', c4, e4, s4, r4⟩ := e_cmds (G := G) (m := m) (g := g) (z := z) W (n + 1) (c := 0) (by omega) r3.2 (by rw [r3.1]; exact w0.wf)
      rw [a38, r3.1] at r4
      have a44 : a4' 4 = va_cpy (ar 0) (ar 4) 0 0 417 := (s4.2 4 (by decide)).trans a34
      obtain ⟨f5, a5, e5, r5⟩ := e_com26 (G := G) (m := m) (g := g) (z := z) (f0 := fi) (a0 := ar) (sc3.trans (s4.mono (by decide) (by decide))) ((s4.1 7 (by decide)).trans h73) h6 (fun j hj => by rw [a44]; exact cpy_0 hj) hb r4
      exact ⟨f5, a5, e4.trans e5, r5⟩
  obtain ⟨f5, a5, e5, r5⟩ := main
  refine ⟨f5, a5, ?_, r5⟩
  rw [b_X5_load_0]
  simp only [mK, mgI6, mgI7, mgI13, mgI14, mgI15, mgI16, mgI17, mgI18, mgI19, mgI20, mgI21, mgI22, mgI23, mgI24, mgI25, mgI26, mgI27, mgR0, mgR1, mgR2, mgR3, mgR4, mgR5, mgR8, mgR9, mgR10, mgR11, mgR12, Option.bind_some, va_rf_some, va_rf_none, bI_rI, bI_rB, bV_rV, bB_0, bB_1, iI_add, iI_sub, iI_mul, iI_neg, rI_of, rV_of, Int.reduceToNat, Int.neg_neg]
  rw [e1, bV_rV, lo, b_X5_load_6, if_neg (by decide)]
  simp only [mK, mgI6, mgI7, mgI13, mgI14, mgI15, mgI16, mgI17, mgI18, mgI19, mgI20, mgI21, mgI22, mgI23, mgI24, mgI25, mgI26, mgI27, mgR0, mgR1, mgR2, mgR3, mgR4, mgR5, mgR8, mgR9, mgR10, mgR11, mgR12, Option.bind_some, va_rf_some, va_rf_none, bI_rI, bI_rB, bV_rV, bB_0, bB_1, iI_add, iI_sub, iI_mul, iI_neg, rI_of, rV_of, Int.reduceToNat, Int.neg_neg]
  have hT : t_Ev (t_pg G) t_hd Y_X5_is 0 ([some (.ref m), some (.ref (G.1 51)), none], [], (hM m f1 b g, z)) = rB (wrd (ar 8) n 0 wTrunk) (hM m f1 b g, z) := by
    have := e_isW (G := G) (m := m) (g := g) (z := z) W.ot W.trunk (by decide) k2.tk
    rw [b8] at this
    exact this
  rw [hT, bI_rB]
  simp only [bB_0]
  have t42 : (if wrd (ar 8) n 0 wTrunk = false then t_Ev (t_pg G) t_hd Y_X5_load 42 ([some (.ref m), some (.int (iI 417))], [.int (iI 1), (.ref m)], (hM m f1 b g, z)) else t_Ev (t_pg G) t_hd Y_X5_load 42 ([some (.ref m), some (.int (iI 417))], [.int (iI 0), (.ref m)], (hM m f1 b g, z))) = t_Ev (t_pg G) t_hd Y_X5_load 42 ([some (.ref m), some (.int (iI 417))], [.int (iI (bB (!wrd (ar 8) n 0 wTrunk))), (.ref m)], (hM m f1 b g, z)) := by
    cases wrd (ar 8) n 0 wTrunk <;> rfl
  rw [t42, e3]
  have hcl : ∀ a, loadS (ar 8) n (empS (ar 0)) = .inr a → (0 ≤ a.2 ∧ a.2 ≤ 10000) ∧ Wf a.1 ∧ a5 0 = a.1 := fun a h => by
    rw [h] at r5
    refine ⟨?_, r5.2.2.2.2.2.2.2.1, r5.2.2.2.2.2.2.1⟩
    unfold loadS at h
    cases hc : setS (ar 8) n (empS (ar 0)) with
    | inl e => rw [hc] at h; cases h
    | inr q =>
      rw [hc] at h
      have := cmdsS_c (show cmdsS (ar 8) n (n + 1) q.1 q.2 0 = .inr a from h)
      omega
  rw [e_load130 e5 j3]
  · cases hr : loadS (ar 8) n (empS (ar 0)) with
    | inl e => rw [show retS (.inl e) = -1 from rfl, if_pos rfl]; rfl
    | inr a =>
      have := hcl a hr
      rw [show retS (.inr a) = a.2 from rfl, if_neg (by omega), this.2.2]
      rfl
  · cases hr : loadS (ar 8) n (empS (ar 0)) with
    | inl e => exact ⟨by show (-1 : Int) ≤ -1; decide, by show (-1 : Int) ≤ 10000; decide⟩
    | inr a =>
      have := hcl a hr
      show -1 ≤ a.2 ∧ a.2 ≤ 10000
      omega
  · intro hv
    cases hr : loadS (ar 8) n (empS (ar 0)) with
    | inl e => rw [hr] at hv; exact absurd rfl hv
    | inr a =>
      have := hcl a hr
      rw [this.2.2]
      exact ⟨this.2.1.bd.dm, this.2.1.rb⟩
end MM
