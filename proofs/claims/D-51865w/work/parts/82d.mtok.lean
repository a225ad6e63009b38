/-! ===== the model reads: its small steps ===== -/
def Wr (fi : Nat → Int) (c : Int) : Nat → Int := fU (fU (fU fi 22 1) 15 c) 16 (fi 19)
theorem Wr_22 {fi : Nat → Int} {c : Int} : Wr fi c 22 = 1 := (fU_n (by decide)).trans ((fU_n (by decide)).trans fU_s)
theorem Wr_15 {fi : Nat → Int} {c : Int} : Wr fi c 15 = c := (fU_n (by decide)).trans fU_s
theorem Wr_16 {fi : Nat → Int} {c : Int} : Wr fi c 16 = fi 19 := fU_s
theorem Wr_Sc {I A : List Nat} {f0 fi : Nat → Int} {a0 ar : Nat → Nat → Int} {c : Int} (h : Sc I A f0 a0 fi ar) (h1 : 22 ∈ I) (h2 : 15 ∈ I) (h3 : 16 ∈ I) : Sc I A f0 a0 (Wr fi c) ar := ((h.fU h1).fU h2).fU h3
theorem RB.set {s : tRow} (h : RB s) {k : Nat} {v : Int} (hv : 0 ≤ v ∧ v ≤ 1000000) : RB (fU s k v) := fun j => by
  unfold fU
  by_cases c : j = k
  · rw [if_pos c]; exact hv
  · rw [if_neg c]; exact h j
/-- all is well, and the present token starts at p -/
abbrev Pk (fi : Nat → Int) (ar : Nat → Nat → Int) (n p : Nat) : Prop := (fi 13 = n) ∧ (n ≤ 600) ∧ (IB (ar 8)) ∧ (fi 22 = 0) ∧ (p ≤ n) ∧ (MT fi (ar 8) n p) ∧ (fi 15 = 0 ∧ fi 16 = -1) ∧ (RB (ar 0))
theorem Pk.h13 {fi : Nat → Int} {ar : Nat → Nat → Int} {n p : Nat} (zz : Pk fi ar n p) : fi 13 = n := zz.1
theorem Pk.h6 {fi : Nat → Int} {ar : Nat → Nat → Int} {n p : Nat} (zz : Pk fi ar n p) : n ≤ 600 := zz.2.1
theorem Pk.hI {fi : Nat → Int} {ar : Nat → Nat → Int} {n p : Nat} (zz : Pk fi ar n p) : IB (ar 8) := zz.2.2.1
theorem Pk.h22 {fi : Nat → Int} {ar : Nat → Nat → Int} {n p : Nat} (zz : Pk fi ar n p) : fi 22 = 0 := zz.2.2.2.1
theorem Pk.hp {fi : Nat → Int} {ar : Nat → Nat → Int} {n p : Nat} (zz : Pk fi ar n p) : p ≤ n := zz.2.2.2.2.1
theorem Pk.mt {fi : Nat → Int} {ar : Nat → Nat → Int} {n p : Nat} (zz : Pk fi ar n p) : MT fi (ar 8) n p := zz.2.2.2.2.2.1
theorem Pk.h15 {fi : Nat → Int} {ar : Nat → Nat → Int} {n p : Nat} (zz : Pk fi ar n p) : fi 15 = 0 ∧ fi 16 = -1 := zz.2.2.2.2.2.2.1
theorem Pk.hb {fi : Nat → Int} {ar : Nat → Nat → Int} {n p : Nat} (zz : Pk fi ar n p) : RB (ar 0) := zz.2.2.2.2.2.2.2
/-- the present token starts at p (all well or not) -/
abbrev Tk (fi : Nat → Int) (ar : Nat → Nat → Int) (n p : Nat) : Prop := (n ≤ 600) ∧ (IB (ar 8)) ∧ (p ≤ n) ∧ (MT fi (ar 8) n p) ∧ (RB (ar 0))
theorem Tk.h6 {fi : Nat → Int} {ar : Nat → Nat → Int} {n p : Nat} (zz : Tk fi ar n p) : n ≤ 600 := zz.1
theorem Tk.hI {fi : Nat → Int} {ar : Nat → Nat → Int} {n p : Nat} (zz : Tk fi ar n p) : IB (ar 8) := zz.2.1
theorem Tk.hp {fi : Nat → Int} {ar : Nat → Nat → Int} {n p : Nat} (zz : Tk fi ar n p) : p ≤ n := zz.2.2.1
theorem Tk.mt {fi : Nat → Int} {ar : Nat → Nat → Int} {n p : Nat} (zz : Tk fi ar n p) : MT fi (ar 8) n p := zz.2.2.2.1
theorem Tk.hb {fi : Nat → Int} {ar : Nat → Nat → Int} {n p : Nat} (zz : Tk fi ar n p) : RB (ar 0) := zz.2.2.2.2
theorem Pk.tk {fi : Nat → Int} {ar : Nat → Nat → Int} {n p : Nat} (k : Pk fi ar n p) : Tk fi ar n p := ⟨k.h6, k.hI, k.hp, k.mt, k.hb⟩
theorem Pk.cg {fi fi' : Nat → Int} {ar ar' : Nat → Nat → Int} {n p : Nat} (k : Pk fi ar n p) {I A : List Nat} (h : Sc I A fi ar fi' ar') (hI : ∀ j ∈ [13, 15, 16, 18, 19, 20, 21, 22], j ∉ I) (hA : 8 ∉ A) (hb : RB (ar' 0)) : Pk fi' ar' n p := by
  have e15 := h.1 15 (hI 15 (by decide))
  have e16 := h.1 16 (hI 16 (by decide))
  have e8 := h.2 8 hA
  have e13 := h.1 13 (hI 13 (by decide))
  have e18 := h.1 18 (hI 18 (by decide))
  have e19 := h.1 19 (hI 19 (by decide))
  have e20 := h.1 20 (hI 20 (by decide))
  have e21 := h.1 21 (hI 21 (by decide))
  have e22 := h.1 22 (hI 22 (by decide))
  exact ⟨e13.trans k.h13, k.h6, by rw [e8]; exact k.hI, e22.trans k.h22, k.hp, by unfold MT; rw [e8, e18, e19, e20, e21]; exact k.mt, by rw [e15, e16]; exact k.h15, hb⟩
section MT
variable {G : tG} {m : Nat} {fi : Nat → Int} {ar : Nat → Nat → Int} {g : tAH} {z : Nat × Nat}
theorem e_wrong_w {b c : Int} (h : fi 22 = 1) : t_Ev (t_pg G) t_hd Y_X5_wrong 0 ([some (.ref m), some (.int (iI b)), some (.int (iI c))], [], (hM m fi ar g, z)) = rV (hM m fi ar g, z) := by
  rw [b_X5_wrong_0]
  simp only [mK, mgI6, mgI7, mgI13, mgI14, mgI15, mgI16, mgI17, mgI18, mgI19, mgI20, mgI21, mgI22, mgI23, mgI24, mgI25, mgI26, mgI27, mgR0, mgR1, mgR2, mgR3, mgR4, mgR5, mgR8, mgR9, mgR10, mgR11, mgR12, Option.bind_some, h]
  (try rfl)
theorem e_wrong_f {c : Int} : t_Ev (t_pg G) t_hd Y_X5_wrong 0 ([some (.ref m), some (.int (iI 0)), some (.int (iI c))], [], (hM m fi ar g, z)) = rV (hM m fi ar g, z) := by
  rw [b_X5_wrong_0]
  simp only [mK, mgI6, mgI7, mgI13, mgI14, mgI15, mgI16, mgI17, mgI18, mgI19, mgI20, mgI21, mgI22, mgI23, mgI24, mgI25, mgI26, mgI27, mgR0, mgR1, mgR2, mgR3, mgR4, mgR5, mgR8, mgR9, mgR10, mgR11, mgR12, Option.bind_some, if_true]
  split <;> rfl
theorem e_wrong_t {c : Int} (h : fi 22 = 0) : t_Ev (t_pg G) t_hd Y_X5_wrong 0 ([some (.ref m), some (.int (iI 1)), some (.int (iI c))], [], (hM m fi ar g, z)) = rV (hM m (Wr fi c) ar g, z) := by
  rw [b_X5_wrong_0]
  simp only [mK, mgI6, mgI7, mgI13, mgI14, mgI15, mgI16, mgI17, mgI18, mgI19, mgI20, mgI21, mgI22, mgI23, mgI24, mgI25, mgI26, mgI27, mgR0, mgR1, mgR2, mgR3, mgR4, mgR5, mgR8, mgR9, mgR10, mgR11, mgR12, Option.bind_some, h, if_true]
  rw [if_neg (by decide)]
  simp (disch := decide) only [mK, mgI6, mgI7, mgI13, mgI14, mgI15, mgI16, mgI17, mgI18, mgI19, mgI20, mgI21, mgI22, mgI23, mgI24, mgI25, mgI26, mgI27, mgR0, mgR1, mgR2, mgR3, mgR4, mgR5, mgR8, mgR9, mgR10, mgR11, mgR12, mpI6, mpI7, mpI13, mpI14, mpI15, mpI16, mpI17, mpI18, mpI19, mpI20, mpI21, mpI22, mpI23, mpI24, mpI25, mpI26, mpI27, Option.bind_some, fU_n]
  (try rfl)
theorem e_go_w (h : fi 22 = 1) : t_Ev (t_pg G) t_hd Y_X5_go 0 ([some (.ref m)], [], (hM m fi ar g, z)) = rV (hM m fi ar g, z) := by
  rw [b_X5_go_0]
  simp only [mK, mgI6, mgI7, mgI13, mgI14, mgI15, mgI16, mgI17, mgI18, mgI19, mgI20, mgI21, mgI22, mgI23, mgI24, mgI25, mgI26, mgI27, mgR0, mgR1, mgR2, mgR3, mgR4, mgR5, mgR8, mgR9, mgR10, mgR11, mgR12, Option.bind_some, h]
  (try rfl)
theorem e_go {n p : Nat} (k : Pk fi ar n p) : ∃ fi', t_Ev (t_pg G) t_hd Y_X5_go 0 ([some (.ref m)], [], (hM m fi ar g, z)) = rV (hM m fi' ar g, z) ∧ Sc [18, 19, 20, 21] [] fi ar fi' ar ∧ Pk fi' ar n (tkT (ar 8) n p) := by
  have hb := tkT_b (inp := ar 8) k.hp
  obtain ⟨fi', e, s, t⟩ := e_next (G := G) (m := m) (g := g) (z := z) k.h13 k.h6 k.hI hb.2.1 k.mt.2.2.1
  refine ⟨fi', ?_, s, ⟨(s.1 13 (by decide)).trans k.h13, k.h6, k.hI, (s.1 22 (by decide)).trans k.h22, hb.2.1, t, ⟨(s.1 15 (by decide)).trans k.h15.1, (s.1 16 (by decide)).trans k.h15.2⟩, k.hb⟩⟩
  rw [b_X5_go_0]
  simp only [mK, mgI6, mgI7, mgI13, mgI14, mgI15, mgI16, mgI17, mgI18, mgI19, mgI20, mgI21, mgI22, mgI23, mgI24, mgI25, mgI26, mgI27, mgR0, mgR1, mgR2, mgR3, mgR4, mgR5, mgR8, mgR9, mgR10, mgR11, mgR12, Option.bind_some, k.h22, if_true]
  rw [e, bV_rV]
  rfl
theorem e_here_w {lo hi : Int} (h : fi 22 = 1) : t_Ev (t_pg G) t_hd Y_X5_here 0 ([some (.ref m), some (.int (iI lo)), some (.int (iI hi))], [], (hM m fi ar g, z)) = rI lo (hM m fi ar g, z) := by
  have w : ∀ b c, t_Ev (t_pg G) t_hd Y_X5_wrong 0 ([some (.ref m), some (.int (iI b)), some (.int (iI c))], [], (hM m fi ar g, z)) = rV (hM m fi ar g, z) := fun b c => e_wrong_w h
  rw [b_X5_here_0]
  simp only [mK, mgI6, mgI7, mgI13, mgI14, mgI15, mgI16, mgI17, mgI18, mgI19, mgI20, mgI21, mgI22, mgI23, mgI24, mgI25, mgI26, mgI27, mgR0, mgR1, mgR2, mgR3, mgR4, mgR5, mgR8, mgR9, mgR10, mgR11, mgR12, Option.bind_some]
  have k : ∀ b : Int, t_Ev (t_pg G) t_hd Y_X5_here 14 ([some (.ref m), some (.int (iI lo)), some (.int (iI hi))], [.int (iI b), (.ref m)], (hM m fi ar g, z)) = rI lo (hM m fi ar g, z) := fun b => by
    rw [b_X5_here_14]
    simp only [mK, mgI6, mgI7, mgI13, mgI14, mgI15, mgI16, mgI17, mgI18, mgI19, mgI20, mgI21, mgI22, mgI23, mgI24, mgI25, mgI26, mgI27, mgR0, mgR1, mgR2, mgR3, mgR4, mgR5, mgR8, mgR9, mgR10, mgR11, mgR12, Option.bind_some, w, bV_rV, h]
    rw [if_neg (by decide), if_neg (by decide)]
    rfl
  split
  · exact k 0
  · exact k 1
theorem tkV_b {inp : Nat → Int} (h : IB inp) {n p : Nat} : 0 ≤ tkV inp n p ∧ tkV inp n p ≤ 100000 := vl_b (fun j => (h j).1) ⟨Int.le_refl 0, by decide⟩
theorem tkK_b {inp : Nat → Int} {n p : Nat} : 0 ≤ tkK inp n p ∧ tkK inp n p ≤ 4 := by
  unfold tkK
  split
  · decide
  · split
    · decide
    · split
      · decide
      · split <;> decide
theorem e_here {n p : Nat} (k : Pk fi ar n p) {lo hi : Int} (h1 : 0 ≤ lo ∧ lo ≤ 100) (h2 : -1 ≤ hi ∧ hi ≤ 100) : t_Ev (t_pg G) t_hd Y_X5_here 0 ([some (.ref m), some (.int (iI lo)), some (.int (iI hi))], [], (hM m fi ar g, z)) = if hC (ar 8) n lo hi p = 0 then rI (tkV (ar 8) n p) (hM m fi ar g, z) else rI lo (hM m (Wr fi (hC (ar 8) n lo hi p)) ar g, z) := by
  have hv := tkV_b k.hI (n := n) (p := p)
  have hk := tkK_b (inp := ar 8) (n := n) (p := p)
  rw [b_X5_here_0]
  simp (disch := omega) only [mK, mgI6, mgI7, mgI13, mgI14, mgI15, mgI16, mgI17, mgI18, mgI19, mgI20, mgI21, mgI22, mgI23, mgI24, mgI25, mgI26, mgI27, mgR0, mgR1, mgR2, mgR3, mgR4, mgR5, mgR8, mgR9, mgR10, mgR11, mgR12, Option.bind_some, k.mt.1, iI_inj]
  unfold hC
  by_cases c : tkK (ar 8) n p = 2
  · rw [if_pos c, if_pos c, b_X5_here_14]
    simp (disch := omega) only [mK, mgI6, mgI7, mgI13, mgI14, mgI15, mgI16, mgI17, mgI18, mgI19, mgI20, mgI21, mgI22, mgI23, mgI24, mgI25, mgI26, mgI27, mgR0, mgR1, mgR2, mgR3, mgR4, mgR5, mgR8, mgR9, mgR10, mgR11, mgR12, Option.bind_some, e_wrong_f, bV_rV, k.h22, if_true, k.mt.2.2.2 c, e_isIn, bI_rB, bB_0]
    unfold isB
    by_cases d : lo ≤ tkV (ar 8) n p ∧ tkV (ar 8) n p ≤ hi
    · rw [decide_eq_true d.1, decide_eq_true d.2, if_neg (by decide), if_pos d, if_pos rfl]
      rfl
    · rw [if_pos (by rw [← Bool.decide_and, decide_eq_false d]), if_neg d, if_neg (by decide)]
      simp only [mK, mgI6, mgI7, mgI13, mgI14, mgI15, mgI16, mgI17, mgI18, mgI19, mgI20, mgI21, mgI22, mgI23, mgI24, mgI25, mgI26, mgI27, mgR0, mgR1, mgR2, mgR3, mgR4, mgR5, mgR8, mgR9, mgR10, mgR11, mgR12, Option.bind_some, e_wrong_t k.h22, bV_rV, Wr_22]
      (try rfl)
  · rw [if_neg c, if_neg c, b_X5_here_14, if_neg (by decide)]
    simp (disch := omega) only [mK, mgI6, mgI7, mgI13, mgI14, mgI15, mgI16, mgI17, mgI18, mgI19, mgI20, mgI21, mgI22, mgI23, mgI24, mgI25, mgI26, mgI27, mgR0, mgR1, mgR2, mgR3, mgR4, mgR5, mgR8, mgR9, mgR10, mgR11, mgR12, Option.bind_some, e_wrong_t k.h22, bV_rV, Wr_22]
    rw [if_neg (by decide)]
    rw [e_wrong_w Wr_22, bV_rV]
    simp only [mK, mgI6, mgI7, mgI13, mgI14, mgI15, mgI16, mgI17, mgI18, mgI19, mgI20, mgI21, mgI22, mgI23, mgI24, mgI25, mgI26, mgI27, mgR0, mgR1, mgR2, mgR3, mgR4, mgR5, mgR8, mgR9, mgR10, mgR11, mgR12, Option.bind_some, Wr_22]
    (try rfl)
theorem e_number_w {lo hi : Int} (h : fi 22 = 1) : t_Ev (t_pg G) t_hd Y_X5_number 0 ([some (.ref m), some (.int (iI lo)), some (.int (iI hi)), none], [], (hM m fi ar g, z)) = rI lo (hM m fi ar g, z) := by
  rw [b_X5_number_0]
  simp only [mK, mgI6, mgI7, mgI13, mgI14, mgI15, mgI16, mgI17, mgI18, mgI19, mgI20, mgI21, mgI22, mgI23, mgI24, mgI25, mgI26, mgI27, mgR0, mgR1, mgR2, mgR3, mgR4, mgR5, mgR8, mgR9, mgR10, mgR11, mgR12, Option.bind_some, e_here_w h, bI_rI, e_go_w h, bV_rV]
  (try rfl)
theorem e_number {n p : Nat} (k : Pk fi ar n p) {lo hi : Int} (h1 : 0 ≤ lo ∧ lo ≤ 100) (h2 : -1 ≤ hi ∧ hi ≤ 100) :
    (hC (ar 8) n lo hi p = 0 → ∃ fi', t_Ev (t_pg G) t_hd Y_X5_number 0 ([some (.ref m), some (.int (iI lo)), some (.int (iI hi)), none], [], (hM m fi ar g, z)) = rI (tkV (ar 8) n p) (hM m fi' ar g, z) ∧ Sc [18, 19, 20, 21] [] fi ar fi' ar ∧ Pk fi' ar n (tkT (ar 8) n p)) ∧
    (hC (ar 8) n lo hi p ≠ 0 → t_Ev (t_pg G) t_hd Y_X5_number 0 ([some (.ref m), some (.int (iI lo)), some (.int (iI hi)), none], [], (hM m fi ar g, z)) = rI lo (hM m (Wr fi (hC (ar 8) n lo hi p)) ar g, z)) := by
  constructor
  · intro c
    obtain ⟨fi', e, s, t⟩ := e_go (G := G) (m := m) (g := g) (z := z) k
    refine ⟨fi', ?_, s, t⟩
    rw [b_X5_number_0]
    simp only [mK, mgI6, mgI7, mgI13, mgI14, mgI15, mgI16, mgI17, mgI18, mgI19, mgI20, mgI21, mgI22, mgI23, mgI24, mgI25, mgI26, mgI27, mgR0, mgR1, mgR2, mgR3, mgR4, mgR5, mgR8, mgR9, mgR10, mgR11, mgR12, Option.bind_some]
    rw [e_here k h1 h2, if_pos c, bI_rI]
    simp only [mK, mgI6, mgI7, mgI13, mgI14, mgI15, mgI16, mgI17, mgI18, mgI19, mgI20, mgI21, mgI22, mgI23, mgI24, mgI25, mgI26, mgI27, mgR0, mgR1, mgR2, mgR3, mgR4, mgR5, mgR8, mgR9, mgR10, mgR11, mgR12, Option.bind_some]
    rw [e, bV_rV]
    rfl
  · intro c
    rw [b_X5_number_0]
    simp only [mK, mgI6, mgI7, mgI13, mgI14, mgI15, mgI16, mgI17, mgI18, mgI19, mgI20, mgI21, mgI22, mgI23, mgI24, mgI25, mgI26, mgI27, mgR0, mgR1, mgR2, mgR3, mgR4, mgR5, mgR8, mgR9, mgR10, mgR11, mgR12, Option.bind_some]
    rw [e_here k h1 h2, if_neg c, bI_rI]
    simp only [mK, mgI6, mgI7, mgI13, mgI14, mgI15, mgI16, mgI17, mgI18, mgI19, mgI20, mgI21, mgI22, mgI23, mgI24, mgI25, mgI26, mgI27, mgR0, mgR1, mgR2, mgR3, mgR4, mgR5, mgR8, mgR9, mgR10, mgR11, mgR12, Option.bind_some]
    rw [e_go_w Wr_22, bV_rV]
    rfl
theorem e_semicolon_w (h : fi 22 = 1) : t_Ev (t_pg G) t_hd Y_X5_semicolon 0 ([some (.ref m)], [], (hM m fi ar g, z)) = rV (hM m fi ar g, z) := by
  rw [b_X5_semicolon_0]
  simp only [mK, mgI6, mgI7, mgI13, mgI14, mgI15, mgI16, mgI17, mgI18, mgI19, mgI20, mgI21, mgI22, mgI23, mgI24, mgI25, mgI26, mgI27, mgR0, mgR1, mgR2, mgR3, mgR4, mgR5, mgR8, mgR9, mgR10, mgR11, mgR12, Option.bind_some, e_wrong_w h, bV_rV, e_go_w h]
  split <;> rfl
theorem e_semicolon {n p : Nat} (k : Pk fi ar n p) :
    (tkK (ar 8) n p = 3 → ∃ fi', t_Ev (t_pg G) t_hd Y_X5_semicolon 0 ([some (.ref m)], [], (hM m fi ar g, z)) = rV (hM m fi' ar g, z) ∧ Sc [18, 19, 20, 21] [] fi ar fi' ar ∧ Pk fi' ar n (tkT (ar 8) n p)) ∧
    (tkK (ar 8) n p ≠ 3 → t_Ev (t_pg G) t_hd Y_X5_semicolon 0 ([some (.ref m)], [], (hM m fi ar g, z)) = rV (hM m (Wr fi 1) ar g, z)) := by
  have hk := tkK_b (inp := ar 8) (n := n) (p := p)
  constructor
  · intro c
    obtain ⟨fi', e, s, t⟩ := e_go (G := G) (m := m) (g := g) (z := z) k
    refine ⟨fi', ?_, s, t⟩
    rw [b_X5_semicolon_0]
    simp (disch := omega) only [mK, mgI6, mgI7, mgI13, mgI14, mgI15, mgI16, mgI17, mgI18, mgI19, mgI20, mgI21, mgI22, mgI23, mgI24, mgI25, mgI26, mgI27, mgR0, mgR1, mgR2, mgR3, mgR4, mgR5, mgR8, mgR9, mgR10, mgR11, mgR12, Option.bind_some, k.mt.1, iI_inj]
    rw [if_pos c, e_wrong_f, bV_rV]
    simp only [mK, mgI6, mgI7, mgI13, mgI14, mgI15, mgI16, mgI17, mgI18, mgI19, mgI20, mgI21, mgI22, mgI23, mgI24, mgI25, mgI26, mgI27, mgR0, mgR1, mgR2, mgR3, mgR4, mgR5, mgR8, mgR9, mgR10, mgR11, mgR12, Option.bind_some]
    rw [e, bV_rV]
    rfl
  · intro c
    rw [b_X5_semicolon_0]
    simp (disch := omega) only [mK, mgI6, mgI7, mgI13, mgI14, mgI15, mgI16, mgI17, mgI18, mgI19, mgI20, mgI21, mgI22, mgI23, mgI24, mgI25, mgI26, mgI27, mgR0, mgR1, mgR2, mgR3, mgR4, mgR5, mgR8, mgR9, mgR10, mgR11, mgR12, Option.bind_some, k.mt.1, iI_inj]
    rw [if_neg c, e_wrong_t k.h22, bV_rV]
    simp only [mK, mgI6, mgI7, mgI13, mgI14, mgI15, mgI16, mgI17, mgI18, mgI19, mgI20, mgI21, mgI22, mgI23, mgI24, mgI25, mgI26, mgI27, mgR0, mgR1, mgR2, mgR3, mgR4, mgR5, mgR8, mgR9, mgR10, mgR11, mgR12, Option.bind_some]
    rw [e_go_w Wr_22, bV_rV]
    rfl
/-- the word l, which lies at q -/
theorem e_is {D : Nat → Prop} {q : Nat} {l : List Int} (w : WD D (hM m fi ar g) q l) (hl : l.length ≤ 10) {n p : Nat} (k : Tk fi ar n p) : t_Ev (t_pg G) t_hd Y_X5_is 0 ([some (.ref m), some (.ref q), none], [], (hM m fi ar g, z)) = rB (wrd (ar 8) n p l) (hM m fi ar g, z) := by
  have hk := tkK_b (inp := ar 8) (n := n) (p := p)
  have hb := tkT_b (inp := ar 8) k.hp
  have h6 := k.h6
  have sl : t_Ev (t_pg G) t_hd Y_J3_length 0 ([some (.ref q)], [], (hM m fi ar g, z)) = rI l.length (hM m fi ar g, z) := c_sLen (hs := (hM m fi ar g, z)) w.1
  obtain ⟨b, hv, hz, vq, e1, -⟩ := id w.1.2
  have e1 : hM m fi ar g q = _ := e1
  rw [b_X5_is_0]
  simp (disch := omega) only [mK, mgI6, mgI7, mgI13, mgI14, mgI15, mgI16, mgI17, mgI18, mgI19, mgI20, mgI21, mgI22, mgI23, mgI24, mgI25, mgI26, mgI27, mgR0, mgR1, mgR2, mgR3, mgR4, mgR5, mgR8, mgR9, mgR10, mgR11, mgR12, Option.bind_some, k.mt.1, iI_inj]
  unfold wrd
  by_cases c : tkK (ar 8) n p = 1
  · rw [if_pos c, decide_eq_true c, Bool.true_and]
    simp (disch := omega) only [mK, mgI6, mgI7, mgI13, mgI14, mgI15, mgI16, mgI17, mgI18, mgI19, mgI20, mgI21, mgI22, mgI23, mgI24, mgI25, mgI26, mgI27, mgR0, mgR1, mgR2, mgR3, mgR4, mgR5, mgR8, mgR9, mgR10, mgR11, mgR12, Option.bind_some, k.mt.2.1, k.mt.2.2.1, kN_at e1, sl, bI_rI, iI_sub, iI_inj]
    by_cases d : tkT (ar 8) n p - tkF (ar 8) n p = l.length
    · rw [if_pos (by omega), decide_eq_true d, Bool.true_and]
      refine (lp_all (N := l.length) (p := fun j => decide (ar 8 (tkF (ar 8) n p + j) = l.getD j 0)) (F := fun j => t_Ev (t_pg G) t_hd Y_X5_is 28 ([some (.ref m), some (.ref q), some (.int (iI (j : Int)))], [], (hM m fi ar g, z))) (r := rI 0 (hM m fi ar g, z)) fun j hj => ?_).trans ?_
      · have hh := k.hI (tkF (ar 8) n p + j)
        have hw := w.at (j := j)
        have sa : t_Ev (t_pg G) t_hd Y_J3_charAt 0 ([some (.ref q), some (.int (iI (j : Int)))], [], (hM m fi ar g, z)) = rI (l.getD j 0) (hM m fi ar g, z) := c_sAt (hs := (hM m fi ar g, z)) w.1 (by omega) hj hw
        rw [b_X5_is_28]
        simp (disch := omega) only [mK, mgI6, mgI7, mgI13, mgI14, mgI15, mgI16, mgI17, mgI18, mgI19, mgI20, mgI21, mgI22, mgI23, mgI24, mgI25, mgI26, mgI27, mgR0, mgR1, mgR2, mgR3, mgR4, mgR5, mgR8, mgR9, mgR10, mgR11, mgR12, Option.bind_some, kN_at e1, sl, bI_rI, iI_lt, k.mt.2.1, iI_add]
        rw [if_pos (by omega)]
        simp (disch := omega) only [mK, mgI6, mgI7, mgI13, mgI14, mgI15, mgI16, mgI17, mgI18, mgI19, mgI20, mgI21, mgI22, mgI23, mgI24, mgI25, mgI26, mgI27, mgR0, mgR1, mgR2, mgR3, mgR4, mgR5, mgR8, mgR9, mgR10, mgR11, mgR12, Option.bind_some, va_rf_some, mld8, kN_at e1, sa, bI_rI, iI_inj]
        rw [show ((tkF (ar 8) n p : Int) + (j : Int)).toNat = tkF (ar 8) n p + j by omega]
        simp (disch := omega) only [iI_inj]
        by_cases hd : ar 8 (tkF (ar 8) n p + j) = l.getD j 0
        · rw [if_pos hd, if_pos (decide_eq_true hd)]; rfl
        · rw [if_neg hd, if_neg (by rw [decide_eq_false hd]; decide)]; rfl
      · cases hd : al (fun j => decide (ar 8 (tkF (ar 8) n p + j) = l.getD j 0)) l.length with
        | true =>
          rw [if_pos rfl, b_X5_is_28]
          simp (disch := omega) only [mK, mgI6, mgI7, mgI13, mgI14, mgI15, mgI16, mgI17, mgI18, mgI19, mgI20, mgI21, mgI22, mgI23, mgI24, mgI25, mgI26, mgI27, mgR0, mgR1, mgR2, mgR3, mgR4, mgR5, mgR8, mgR9, mgR10, mgR11, mgR12, Option.bind_some, kN_at e1, sl, bI_rI, iI_lt]
          rw [if_neg (by omega)]
          rfl
        | false => rfl
    · rw [if_neg (by omega), decide_eq_false d]; rfl
  · rw [if_neg c, decide_eq_false c]; rfl
end MT
