/-! ===== the model plays a text, loads a text ===== -/
/-- the commands' answer, ahead of its end -/
def CmR (r : (Int × Nat) ⊕ (tRow × Int)) (fi : Nat → Int) (ar : Nat → Nat → Int) (c : Int) : Prop := match r with
  | .inl e => fi 22 = 1 ∧ fi 15 = e.1 ∧ fi 16 = (e.2 : Int) ∧ RB (ar 0)
  | .inr a => fi 22 = 0 ∧ (fi 15 = 0 ∧ fi 16 = -1) ∧ ar 0 = a.1 ∧ c = a.2 ∧ Wf a.1
section RU
variable {G : tG} {m : Nat} {fi : Nat → Int} {ar : Nat → Nat → Int} {g : tAH} {z : Nat × Nat} {D : Nat → Prop}
theorem e_cmds (W : Wds G m D g) {n : Nat} : ∀ (f : Nat) {fi : Nat → Int} {ar : Nat → Nat → Int} {p : Nat} {c : Int}, n + 1 ≤ p + f → Pk fi ar n p → Wf (ar 0) → ∃ fi' ar' c', t_Ev (t_pg G) t_hd Y_X5_commands 2 ([some (.ref m), some (.int (iI c))], [], (hM m fi ar g, z)) = t_Ev (t_pg G) t_hd Y_X5_commands 26 ([some (.ref m), some (.int (iI c'))], [], (hM m fi' ar' g, z)) ∧ Sc PI PJ fi ar fi' ar' ∧ CmR (cmdsS (ar 8) n f (ar 0) p c) fi' ar' c' := by
  intro f
  induction f with
  | zero => intro fi ar p c hf k; have := k.hp; omega
  | succ f ih =>
    intro fi ar p c hf k w
    have hk := tkK_b (inp := ar 8) (n := n) (p := p)
    rw [b_X5_commands_2, cmdsS]
    simp (disch := omega) only [mK, mgI6, mgI7, mgI13, mgI14, mgI15, mgI16, mgI17, mgI18, mgI19, mgI20, mgI21, mgI22, mgI23, mgI24, mgI25, mgI26, mgI27, mgR0, mgR1, mgR2, mgR3, mgR4, mgR5, mgR8, mgR9, mgR10, mgR11, mgR12, Option.bind_some, va_rf_some, va_rf_none, bI_rI, bI_rB, bV_rV, bB_0, bB_1, iI_add, iI_sub, iI_mul, iI_neg, rI_of, rV_of, Int.reduceToNat, Int.neg_neg, k.h22, if_true, k.mt.1, iI_inj]
    by_cases c0 : tkK (ar 8) n p = 0
    · rw [if_pos c0, if_pos c0]
      exact ⟨fi, ar, c, rfl, Sc.refl, k.h22, k.h15, rfl, rfl, w⟩
    · rw [if_neg c0, if_neg c0]
      obtain ⟨f1, a1, e1, s1, r1⟩ := e_command (G := G) (m := m) (g := g) (z := z) W w.rw k
      rw [e1, bV_rV]
      have e8 : a1 8 = ar 8 := s1.2 8 (by decide)
      cases hc : cmdS (ar 8) n (ar 0) p with
      | inl e =>
        rw [hc] at r1
        refine ⟨f1, a1, c + 1, ?_, s1, r1⟩
        rw [b_X5_commands_2]
        simp only [mK, mgI6, mgI7, mgI13, mgI14, mgI15, mgI16, mgI17, mgI18, mgI19, mgI20, mgI21, mgI22, mgI23, mgI24, mgI25, mgI26, mgI27, mgR0, mgR1, mgR2, mgR3, mgR4, mgR5, mgR8, mgR9, mgR10, mgR11, mgR12, Option.bind_some, va_rf_some, va_rf_none, bI_rI, bI_rB, bV_rV, bB_0, bB_1, iI_add, iI_sub, iI_mul, iI_neg, rI_of, rV_of, Int.reduceToNat, Int.neg_neg, r1.1]
        rw [if_neg (by decide)]
      | inr q =>
        obtain ⟨s', q⟩ := q
        rw [hc] at r1
        have ok := cmdS_ok k.hp c0 w hc
        have hp := k.hp
        obtain ⟨f2, a2, c2, e2, s2, r2⟩ := ih (c := c + 1) (by omega) r1.2 (by rw [r1.1]; exact ok.1)
        rw [e8, r1.1] at r2
        exact ⟨f2, a2, c2, e2, s1.trans s2, r2⟩
theorem e_starts {n : Nat} (h13 : fi 13 = n) (h6 : n ≤ 600) (hI : IB (ar 8)) (hb : RB (ar 0)) : ∃ fi', t_Ev (t_pg G) t_hd Y_X5_starts 0 ([some (.ref m)], [], (hM m fi ar g, z)) = rV (hM m fi' (aS ar 4 (va_cpy (ar 0) (ar 4) 0 0 417)) g, z) ∧ Sc [7, 15, 16, 18, 19, 20, 21, 22] [4] fi ar fi' (aS ar 4 (va_cpy (ar 0) (ar 4) 0 0 417)) ∧ fi' 7 = 0 ∧ Pk fi' (aS ar 4 (va_cpy (ar 0) (ar 4) 0 0 417)) n 0 := by
  obtain ⟨f, hf⟩ : ∃ f, f = fU (fU (fU (fU (fU fi 7 0) 20 0) 22 0) 15 0) 16 (-1) := ⟨_, rfl⟩
  obtain ⟨a, ha⟩ : ∃ a, a = aS ar 4 (va_cpy (ar 0) (ar 4) 0 0 417) := ⟨_, rfl⟩
  have a8 : a 8 = ar 8 := by rw [ha]; exact aS_n (by decide)
  have a0 : a 0 = ar 0 := by rw [ha]; exact aS_n (by decide)
  have f20 : f 20 = ((0 : Nat) : Int) := by rw [hf, fU_n (by decide), fU_n (by decide), fU_n (by decide), fU_s]; rfl
  have f13 : f 13 = n := by rw [hf, fU_n (by decide), fU_n (by decide), fU_n (by decide), fU_n (by decide), fU_n (by decide)]; exact h13
  have f22 : f 22 = 0 := by rw [hf, fU_n (by decide), fU_n (by decide), fU_s]
  have f15 : f 15 = 0 := by rw [hf, fU_n (by decide), fU_s]
  have f16 : f 16 = -1 := by rw [hf, fU_s]
  have f7 : f 7 = 0 := by rw [hf, fU_n (by decide), fU_n (by decide), fU_n (by decide), fU_n (by decide), fU_s]
  have e := e_copy (G := G) (m := m) (fi := f) (ar := ar) (g := g) (z := z) (k1 := 0) (k2 := 4) (by decide) (by decide) (z1 := 0) (z2 := 0) (Int.le_refl 0) (Int.le_refl 0) (by decide) (by decide)
  obtain ⟨f1, e1, s1, t1⟩ := e_next (G := G) (m := m) (fi := f) (ar := a) (g := g) (z := z) (p := 0) f13 h6 (by rw [a8]; exact hI) (Nat.zero_le n) f20
  have sf : Sc [7, 15, 16, 18, 19, 20, 21, 22] [4] fi ar f a := by
    rw [hf, ha]
    exact (((((Sc.refl.fU (by decide)).fU (by decide)).fU (by decide)).fU (by decide)).fU (by decide)).aS (by decide)
  rw [← ha]
  refine ⟨f1, ?_, sf.trans (s1.mono (by decide) (by decide)), (s1.1 7 (by decide)).trans f7, ⟨(s1.1 13 (by decide)).trans f13, h6, by rw [a8]; exact hI, (s1.1 22 (by decide)).trans f22, Nat.zero_le n, t1, ⟨(s1.1 15 (by decide)).trans f15, (s1.1 16 (by decide)).trans f16⟩, by rw [a0]; exact hb⟩⟩
  rw [b_X5_starts_0]
  simp only [mK, mgI6, mgI7, mgI13, mgI14, mgI15, mgI16, mgI17, mgI18, mgI19, mgI20, mgI21, mgI22, mgI23, mgI24, mgI25, mgI26, mgI27, mgR0, mgR1, mgR2, mgR3, mgR4, mgR5, mgR8, mgR9, mgR10, mgR11, mgR12, Option.bind_some, va_rf_some, va_rf_none, bI_rI, bI_rB, bV_rV, bB_0, bB_1, iI_add, iI_sub, iI_mul, iI_neg, rI_of, rV_of, Int.reduceToNat, Int.neg_neg, mpI6, mpI7, mpI13, mpI14, mpI15, mpI16, mpI17, mpI18, mpI19, mpI20, mpI21, mpI22, mpI23, mpI24, mpI25, mpI26, mpI27]
  rw [← hf]
  rw [show m + 1 = m + 1 + 0 from rfl, show m + 5 = m + 1 + 4 from rfl, e, bV_rV]
  simp only [mK, mgI6, mgI7, mgI13, mgI14, mgI15, mgI16, mgI17, mgI18, mgI19, mgI20, mgI21, mgI22, mgI23, mgI24, mgI25, mgI26, mgI27, mgR0, mgR1, mgR2, mgR3, mgR4, mgR5, mgR8, mgR9, mgR10, mgR11, mgR12, Option.bind_some, va_rf_some, va_rf_none, bI_rI, bI_rB, bV_rV, bB_0, bB_1, iI_add, iI_sub, iI_mul, iI_neg, rI_of, rV_of, Int.reduceToNat, Int.neg_neg]
  rw [← ha, e1, bV_rV]
theorem cpy_0 {f f' : Nat → Int} {j : Nat} (h : j < 417) : va_cpy f f' 0 0 417 j = f j := by
  unfold va_cpy
  rw [if_pos (by omega)]
  exact congrArg f (by omega)
theorem cpy_rb {f f' : Nat → Int} (h : ∀ j, j < 417 → 0 ≤ f j ∧ f j ≤ 1000000) (h' : RB f') : RB (va_cpy f f' 0 0 417) := fun j => by
  unfold va_cpy
  split
  · exact h _ (by omega)
  · exact h' j
theorem remK_cg {kept row row' : Nat → Int} {c : Int} (h : ∀ j, j < 417 → row j = row' j) : remK kept c row = remK kept c row' := by
  unfold remK
  funext k
  unfold va_cpy
  split
  · exact h _ (by omega)
  · rfl
/-- what a text played has done -/
def PlyR (r : (Int × Nat) ⊕ (tRow × Int)) (fi : Nat → Int) (ar : Nat → Nat → Int) (fi' : Nat → Int) (ar' : Nat → Nat → Int) : Prop := match r with
  | .inl e => Sc (13 :: 7 :: PI) (4 :: PJ) fi ar fi' ar' ∧ fi' 7 = 0 ∧ fi' 13 = 0 ∧ fi' 15 = e.1 ∧ fi' 16 = (e.2 : Int) ∧ (∀ j, j < 417 → ar' 0 j = ar 0 j) ∧ RB (ar' 0)
  | .inr a => Sc (6 :: 13 :: 7 :: PI) (2 :: 4 :: PJ) fi ar fi' ar' ∧ fi' 7 = 0 ∧ fi' 13 = 0 ∧ fi' 15 = 0 ∧ fi' 16 = -1 ∧ fi' 6 = remC (fi 6) + 1 ∧ ar' 0 = a.1 ∧ Wf a.1 ∧ ar' 2 = remK (ar 2) (fi 6) (ar 0)
def retS (r : (Int × Nat) ⊕ (tRow × Int)) : Int := match r with
  | .inl _ => -1
  | .inr a => a.2
theorem e_com26 {r : (Int × Nat) ⊕ (tRow × Int)} {c : Int} {f0 : Nat → Int} {a0 : Nat → Nat → Int} (hs : Sc (7 :: PI) (4 :: PJ) f0 a0 fi ar) (h7 : fi 7 = 0) (h6 : 0 ≤ f0 6 ∧ f0 6 ≤ 8) (h4 : ∀ j, j < 417 → ar 4 j = a0 0 j) (hb0 : RB (a0 0)) (hr : CmR r fi ar c) : ∃ fi' ar', t_Ev (t_pg G) t_hd Y_X5_commands 26 ([some (.ref m), some (.int (iI c))], [], (hM m fi ar g, z)) = rI (retS r) (hM m fi' ar' g, z) ∧ PlyR r f0 a0 fi' ar' := by
  have f6 : fi 6 = f0 6 := hs.1 6 (by decide)
  have a2 : ar 2 = a0 2 := hs.2 2 (by decide)
  rw [b_X5_commands_26]
  cases r with
  | inl e =>
    obtain ⟨r1, r2, r3, r4⟩ := hr
    have g22 : fU fi 13 0 22 = 1 := (fU_n (by decide)).trans r1
    simp only [mK, mgI6, mgI7, mgI13, mgI14, mgI15, mgI16, mgI17, mgI18, mgI19, mgI20, mgI21, mgI22, mgI23, mgI24, mgI25, mgI26, mgI27, mgR0, mgR1, mgR2, mgR3, mgR4, mgR5, mgR8, mgR9, mgR10, mgR11, mgR12, Option.bind_some, va_rf_some, va_rf_none, bI_rI, bI_rB, bV_rV, bB_0, bB_1, iI_add, iI_sub, iI_mul, iI_neg, rI_of, rV_of, Int.reduceToNat, Int.neg_neg, mpI13, g22, i10, if_false]
    rw [show m + 1 = m + 1 + 0 from rfl, show m + 5 = m + 1 + 4 from rfl, e_copy (by decide) (by decide) (Int.le_refl 0) (Int.le_refl 0) (by decide) (by decide), bV_rV]
    simp only [mK, mgI6, mgI7, mgI13, mgI14, mgI15, mgI16, mgI17, mgI18, mgI19, mgI20, mgI21, mgI22, mgI23, mgI24, mgI25, mgI26, mgI27, mgR0, mgR1, mgR2, mgR3, mgR4, mgR5, mgR8, mgR9, mgR10, mgR11, mgR12, Option.bind_some, va_rf_some, va_rf_none, bI_rI, bI_rB, bV_rV, bB_0, bB_1, iI_add, iI_sub, iI_mul, iI_neg, rI_of, rV_of, Int.reduceToNat, Int.neg_neg, g22, i10, if_false]
    refine ⟨_, _, rfl, ((hs.mono (by decide) (by decide)).fU (by decide)).aS (by decide), (fU_n (by decide)).trans h7, fU_s, (fU_n (by decide)).trans r2, (fU_n (by decide)).trans r3, fun j hj => ?_, ?_⟩
    · rw [aS_s]
      exact (cpy_0 hj).trans (h4 j hj)
    · rw [aS_s]
      exact cpy_rb (fun j hj => by rw [h4 j hj]; exact hb0 j) r4
  | inr a =>
    obtain ⟨r1, ⟨r2, r3⟩, r4, r5, r6⟩ := hr
    have g22 : fU fi 13 0 22 = 0 := (fU_n (by decide)).trans r1
    have g6 : fU fi 13 0 6 = f0 6 := (fU_n (by decide)).trans f6
    simp only [mK, mgI6, mgI7, mgI13, mgI14, mgI15, mgI16, mgI17, mgI18, mgI19, mgI20, mgI21, mgI22, mgI23, mgI24, mgI25, mgI26, mgI27, mgR0, mgR1, mgR2, mgR3, mgR4, mgR5, mgR8, mgR9, mgR10, mgR11, mgR12, Option.bind_some, va_rf_some, va_rf_none, bI_rI, bI_rB, bV_rV, bB_0, bB_1, iI_add, iI_sub, iI_mul, iI_neg, rI_of, rV_of, Int.reduceToNat, Int.neg_neg, mpI13, g22, if_true]
    rw [show m + 5 = m + 1 + 4 from rfl, e_remember (by decide) (by decide) rfl (by rw [g6]; exact h6), bV_rV, g6, a2]
    have g22' : fU (fU fi 13 0) 6 (remC (f0 6) + 1) 22 = 0 := (fU_n (by decide)).trans g22
    simp only [mK, mgI6, mgI7, mgI13, mgI14, mgI15, mgI16, mgI17, mgI18, mgI19, mgI20, mgI21, mgI22, mgI23, mgI24, mgI25, mgI26, mgI27, mgR0, mgR1, mgR2, mgR3, mgR4, mgR5, mgR8, mgR9, mgR10, mgR11, mgR12, Option.bind_some, va_rf_some, va_rf_none, bI_rI, bI_rB, bV_rV, bB_0, bB_1, iI_add, iI_sub, iI_mul, iI_neg, rI_of, rV_of, Int.reduceToNat, Int.neg_neg, g22', if_true]
    rw [r5]
    refine ⟨_, _, rfl, (((hs.mono (by decide) (by decide)).fU (by decide)).fU (by decide)).aS (by decide), (fU_n (by decide)).trans ((fU_n (by decide)).trans h7), (fU_n (by decide)).trans fU_s, (fU_n (by decide)).trans ((fU_n (by decide)).trans r2), (fU_n (by decide)).trans ((fU_n (by decide)).trans r3), fU_s, (aS_n (by decide)).trans r4, r6, ?_⟩
    rw [aS_s]
    exact remK_cg h4
theorem e_play (W : Wds G m D g) {n : Nat} (h13 : fi 13 = n) (hn : n ≤ 600) (hI : IB (ar 8)) (w : Wf (ar 0)) (h6 : 0 ≤ fi 6 ∧ fi 6 ≤ 8) : ∃ fi' ar', t_Ev (t_pg G) t_hd Y_X5_play 0 ([some (.ref m)], [], (hM m fi ar g, z)) = rI (retS (playS (ar 8) n (ar 0))) (hM m fi' ar' g, z) ∧ PlyR (playS (ar 8) n (ar 0)) fi ar fi' ar' := by
  obtain ⟨f1, e1, s1, t1, k1⟩ := e_starts (G := G) (m := m) (g := g) (z := z) h13 hn hI w.rb
  obtain ⟨a, ha⟩ : ∃ a, a = aS ar 4 (va_cpy (ar 0) (ar 4) 0 0 417) := ⟨_, rfl⟩
  rw [← ha] at e1 s1 k1
  have a8 : a 8 = ar 8 := by rw [ha]; exact aS_n (by decide)
  have a0 : a 0 = ar 0 := by rw [ha]; exact aS_n (by decide)
  have a4 : a 4 = va_cpy (ar 0) (ar 4) 0 0 417 := by rw [ha]; exact aS_s
  obtain ⟨f2, b2, c2, e2, s2, r2⟩ := e_cmds (G := G) (m := m) (g := g) (z := z) W (n + 1) (c := 0) (by omega) k1 (by rw [a0]; exact w)
  rw [a8, a0] at r2
  have b4 : b2 4 = va_cpy (ar 0) (ar 4) 0 0 417 := (s2.2 4 (by decide)).trans a4
  obtain ⟨f3, b3, e3, r3⟩ := e_com26 (G := G) (m := m) (g := g) (z := z) (f0 := fi) (a0 := ar) ((s1.mono (by decide) (by decide)).trans (s2.mono (by decide) (by decide))) ((s2.1 7 (by decide)).trans t1) h6 (fun j hj => by rw [b4]; exact cpy_0 hj) w.rb r2
  refine ⟨f3, b3, ?_, r3⟩
  rw [b_X5_play_0]
  simp only [mK, mgI6, mgI7, mgI13, mgI14, mgI15, mgI16, mgI17, mgI18, mgI19, mgI20, mgI21, mgI22, mgI23, mgI24, mgI25, mgI26, mgI27, mgR0, mgR1, mgR2, mgR3, mgR4, mgR5, mgR8, mgR9, mgR10, mgR11, mgR12, Option.bind_some, va_rf_some, va_rf_none, bI_rI, bI_rB, bV_rV, bB_0, bB_1, iI_add, iI_sub, iI_mul, iI_neg, rI_of, rV_of, Int.reduceToNat, Int.neg_neg]
  rw [e1, bV_rV]
  simp only [mK, mgI6, mgI7, mgI13, mgI14, mgI15, mgI16, mgI17, mgI18, mgI19, mgI20, mgI21, mgI22, mgI23, mgI24, mgI25, mgI26, mgI27, mgR0, mgR1, mgR2, mgR3, mgR4, mgR5, mgR8, mgR9, mgR10, mgR11, mgR12, Option.bind_some, va_rf_some, va_rf_none, bI_rI, bI_rB, bV_rV, bB_0, bB_1, iI_add, iI_sub, iI_mul, iI_neg, rI_of, rV_of, Int.reduceToNat, Int.neg_neg]
  rw [b_X5_commands_0]
  have e2' : t_Ev (t_pg G) t_hd Y_X5_commands 2 ([some (.ref m), some (.int (iI 0))], [], (hM m f1 a g, z)) = t_Ev (t_pg G) t_hd Y_X5_commands 26 ([some (.ref m), some (.int (iI c2))], [], (hM m f2 b2 g, z)) := e2
  rw [e2', e3, bI_rI]
  rfl
end RU
