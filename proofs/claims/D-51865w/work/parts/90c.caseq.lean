/-! ===== the law's cases: plain answers ===== -/
section CSQ
variable {G : tG} {hA hs : tHS} {sa len x m oa : Nat} {f : Nat → Int32} {fi : Nat → Int} {ar : Nat → Nat → Int}
theorem lc_439 (K : KV G hA sa len f) (J : JV G hA x m oa hs fi ar) {p : Int} (hp : 0 ≤ p ∧ p + 6 ≤ len) {w5 w6 w7 w8 : Option Value} : StL G hA sa x m oa p hs (t_Ev (t_pg G) t_hd Y_L_law 439 ([some (.ref sa), some (.ref x), some (.ref m), some (.ref oa), some (.int (iI p)), w5, w6, w7, w8], [], hs)) := by
  obtain ⟨sv, a, ia, ow, dq, sb, ea, hd, gs, fs, X⟩ := J.1.xo
  obtain ⟨hs', fi', ar', e, J', z1, z2⟩ := J.q (kc := fun _ => 1) (CQ.cg (hA := hA) X J.1.fr J.2.o199 (q_errorCode X J.1.fr)) (E5 := fun a h => t_Ev (t_pg G) t_hd Y_X5_errorCode 0 ([some (.ref a)], [], h)) (K := fun h => t_Ev (t_pg G) t_hd Y_L_law 2718 ([some (.ref sa), some (.ref x), some (.ref m), some (.ref oa), some (.int (iI p)), w5, w6, w7, w8], [], h)) (Z := fun h => rI 0 h) fun hs1 J1 => J1.at (P := fun h => MM m hs1.1 hs1.2 (fun _ => 1) (t_Ev (t_pg G) t_hd Y_X5_errorCode 0 ([some (.ref m)], [], h)) _ _ _) (MM.ofQ J.2 (m_errorCode))
  refine ⟨hs', fi', ar', w5, w6, w7, w8, Eq.trans ?_ e, J', z1, z2⟩
  rw [b_L_law_439, X.kx, Option.bind_some]
  rfl
theorem lc_452 (K : KV G hA sa len f) (J : JV G hA x m oa hs fi ar) {p : Int} (hp : 0 ≤ p ∧ p + 6 ≤ len) {w5 w6 w7 w8 : Option Value} : StL G hA sa x m oa p hs (t_Ev (t_pg G) t_hd Y_L_law 452 ([some (.ref sa), some (.ref x), some (.ref m), some (.ref oa), some (.int (iI p)), w5, w6, w7, w8], [], hs)) := by
  obtain ⟨sv, a, ia, ow, dq, sb, ea, hd, gs, fs, X⟩ := J.1.xo
  obtain ⟨hs', fi', ar', e, J', z1, z2⟩ := J.q (kc := fun _ => 1) (CQ.cg (hA := hA) X J.1.fr J.2.o199 (q_errorOffset X J.1.fr)) (E5 := fun a h => t_Ev (t_pg G) t_hd Y_X5_errorOffset 0 ([some (.ref a)], [], h)) (K := fun h => t_Ev (t_pg G) t_hd Y_L_law 2718 ([some (.ref sa), some (.ref x), some (.ref m), some (.ref oa), some (.int (iI p)), w5, w6, w7, w8], [], h)) (Z := fun h => rI 0 h) fun hs1 J1 => J1.at (P := fun h => MM m hs1.1 hs1.2 (fun _ => 1) (t_Ev (t_pg G) t_hd Y_X5_errorOffset 0 ([some (.ref m)], [], h)) _ _ _) (MM.ofQ J.2 (m_errorOffset))
  refine ⟨hs', fi', ar', w5, w6, w7, w8, Eq.trans ?_ e, J', z1, z2⟩
  rw [b_L_law_452, X.kx, Option.bind_some]
  rfl
theorem lc_837 (K : KV G hA sa len f) (J : JV G hA x m oa hs fi ar) {p : Int} (hp : 0 ≤ p ∧ p + 6 ≤ len) {w5 w6 w7 w8 : Option Value} : StL G hA sa x m oa p hs (t_Ev (t_pg G) t_hd Y_L_law 837 ([some (.ref sa), some (.ref x), some (.ref m), some (.ref oa), some (.int (iI p)), w5, w6, w7, w8], [], hs)) := by
  obtain ⟨sv, a, ia, ow, dq, sb, ea, hd, gs, fs, X⟩ := J.1.xo
  obtain ⟨hs', fi', ar', e, J', z1, z2⟩ := J.q (kc := fun _ => 1) (CQ.cg (hA := hA) X J.1.fr J.2.o199 (q_columns X J.1.fr)) (E5 := fun a h => t_Ev (t_pg G) t_hd Y_X5_columns 0 ([some (.ref a)], [], h)) (K := fun h => t_Ev (t_pg G) t_hd Y_L_law 2718 ([some (.ref sa), some (.ref x), some (.ref m), some (.ref oa), some (.int (iI p)), w5, w6, w7, w8], [], h)) (Z := fun h => rI 0 h) fun hs1 J1 => J1.at (P := fun h => MM m hs1.1 hs1.2 (fun _ => 1) (t_Ev (t_pg G) t_hd Y_X5_columns 0 ([some (.ref m)], [], h)) _ _ _) (MM.ofQ J.2 (m_columns))
  refine ⟨hs', fi', ar', w5, w6, w7, w8, Eq.trans ?_ e, J', z1, z2⟩
  rw [b_L_law_837, X.kx, Option.bind_some]
  rfl
theorem lc_850 (K : KV G hA sa len f) (J : JV G hA x m oa hs fi ar) {p : Int} (hp : 0 ≤ p ∧ p + 6 ≤ len) {w5 w6 w7 w8 : Option Value} : StL G hA sa x m oa p hs (t_Ev (t_pg G) t_hd Y_L_law 850 ([some (.ref sa), some (.ref x), some (.ref m), some (.ref oa), some (.int (iI p)), w5, w6, w7, w8], [], hs)) := by
  obtain ⟨sv, a, ia, ow, dq, sb, ea, hd, gs, fs, X⟩ := J.1.xo
  obtain ⟨hs', fi', ar', e, J', z1, z2⟩ := J.q (kc := fun _ => 1) (CQ.cg (hA := hA) X J.1.fr J.2.o199 (q_rows X J.1.fr)) (E5 := fun a h => t_Ev (t_pg G) t_hd Y_X5_rows 0 ([some (.ref a)], [], h)) (K := fun h => t_Ev (t_pg G) t_hd Y_L_law 2718 ([some (.ref sa), some (.ref x), some (.ref m), some (.ref oa), some (.int (iI p)), w5, w6, w7, w8], [], h)) (Z := fun h => rI 0 h) fun hs1 J1 => J1.at (P := fun h => MM m hs1.1 hs1.2 (fun _ => 1) (t_Ev (t_pg G) t_hd Y_X5_rows 0 ([some (.ref m)], [], h)) _ _ _) (MM.ofQ J.2 (m_rows))
  refine ⟨hs', fi', ar', w5, w6, w7, w8, Eq.trans ?_ e, J', z1, z2⟩
  rw [b_L_law_850, X.kx, Option.bind_some]
  rfl
theorem lc_863 (K : KV G hA sa len f) (J : JV G hA x m oa hs fi ar) {p : Int} (hp : 0 ≤ p ∧ p + 6 ≤ len) {w5 w6 w7 w8 : Option Value} : StL G hA sa x m oa p hs (t_Ev (t_pg G) t_hd Y_L_law 863 ([some (.ref sa), some (.ref x), some (.ref m), some (.ref oa), some (.int (iI p)), w5, w6, w7, w8], [], hs)) := by
  obtain ⟨sv, a, ia, ow, dq, sb, ea, hd, gs, fs, X⟩ := J.1.xo
  obtain ⟨hs', fi', ar', e, J', z1, z2⟩ := J.q (kc := fun _ => 1) (CQ.cg (hA := hA) X J.1.fr J.2.o199 (q_emptyCells X J.1.fr J.2)) (E5 := fun a h => t_Ev (t_pg G) t_hd Y_X5_emptyCells 0 ([some (.ref a)], [], h)) (K := fun h => t_Ev (t_pg G) t_hd Y_L_law 2718 ([some (.ref sa), some (.ref x), some (.ref m), some (.ref oa), some (.int (iI p)), w5, w6, w7, w8], [], h)) (Z := fun h => rI 0 h) fun hs1 J1 => J1.at (P := fun h => MM m hs1.1 hs1.2 (fun _ => 1) (t_Ev (t_pg G) t_hd Y_X5_emptyCells 0 ([some (.ref m)], [], h)) _ _ _) (MM.ofQ J.2 (m_emptyCells J.2))
  refine ⟨hs', fi', ar', w5, w6, w7, w8, Eq.trans ?_ e, J', z1, z2⟩
  rw [b_L_law_863, X.kx, Option.bind_some]
  rfl
theorem lc_876 (K : KV G hA sa len f) (J : JV G hA x m oa hs fi ar) {p : Int} (hp : 0 ≤ p ∧ p + 6 ≤ len) {w5 w6 w7 w8 : Option Value} : StL G hA sa x m oa p hs (t_Ev (t_pg G) t_hd Y_L_law 876 ([some (.ref sa), some (.ref x), some (.ref m), some (.ref oa), some (.int (iI p)), w5, w6, w7, w8], [], hs)) := by
  obtain ⟨sv, a, ia, ow, dq, sb, ea, hd, gs, fs, X⟩ := J.1.xo
  obtain ⟨hs', fi', ar', e, J', z1, z2⟩ := J.q (kc := fun _ => 1) (CQ.cg (hA := hA) X J.1.fr J.2.o199 (q_pieceCount X J.1.fr)) (E5 := fun a h => t_Ev (t_pg G) t_hd Y_X5_pieceCount 0 ([some (.ref a)], [], h)) (K := fun h => t_Ev (t_pg G) t_hd Y_L_law 2718 ([some (.ref sa), some (.ref x), some (.ref m), some (.ref oa), some (.int (iI p)), w5, w6, w7, w8], [], h)) (Z := fun h => rI 0 h) fun hs1 J1 => J1.at (P := fun h => MM m hs1.1 hs1.2 (fun _ => 1) (t_Ev (t_pg G) t_hd Y_X5_pieceCount 0 ([some (.ref m)], [], h)) _ _ _) (MM.ofQ J.2 (m_pieceCount))
  refine ⟨hs', fi', ar', w5, w6, w7, w8, Eq.trans ?_ e, J', z1, z2⟩
  rw [b_L_law_876, X.kx, Option.bind_some]
  rfl
theorem lc_889 (K : KV G hA sa len f) (J : JV G hA x m oa hs fi ar) {p : Int} (hp : 0 ≤ p ∧ p + 6 ≤ len) {w5 w6 w7 w8 : Option Value} : StL G hA sa x m oa p hs (t_Ev (t_pg G) t_hd Y_L_law 889 ([some (.ref sa), some (.ref x), some (.ref m), some (.ref oa), some (.int (iI p)), w5, w6, w7, w8], [], hs)) := by
  obtain ⟨sv, a, ia, ow, dq, sb, ea, hd, gs, fs, X⟩ := J.1.xo
  have hq := CQ.cg (hA := hA) X J.1.fr J.2.o199 (q_strapCount (G := G) X J.1.fr)
  have hm := fun (g : tAH) (z : Nat × Nat) => m_strapCount (G := G) (m := m) (g := g) (z := z) (kc := fun _ => 1) J.2
  generalize stC (ar 0) = c0 at hq hm
  obtain ⟨hs', fi', ar', e, J', z1, z2⟩ := J.q (kc := fun _ => 1) hq (E5 := fun a h => t_Ev (t_pg G) t_hd Y_X5_strapCount 0 ([some (.ref a), none, none], [], h)) (K := fun h => t_Ev (t_pg G) t_hd Y_L_law 2718 ([some (.ref sa), some (.ref x), some (.ref m), some (.ref oa), some (.int (iI p)), w5, w6, w7, w8], [], h)) (Z := fun h => rI 0 h) fun hs1 J1 => J1.at (P := fun h => MM m hs1.1 hs1.2 (fun _ => 1) (t_Ev (t_pg G) t_hd Y_X5_strapCount 0 ([some (.ref m), none, none], [], h)) _ _ _) (MM.ofQ J.2 (hm _ _))
  refine ⟨hs', fi', ar', w5, w6, w7, w8, Eq.trans ?_ e, J', z1, z2⟩
  rw [b_L_law_889, X.kx, Option.bind_some]
  rfl
theorem lc_902 (K : KV G hA sa len f) (J : JV G hA x m oa hs fi ar) {p : Int} (hp : 0 ≤ p ∧ p + 6 ≤ len) {w5 w6 w7 w8 : Option Value} : StL G hA sa x m oa p hs (t_Ev (t_pg G) t_hd Y_L_law 902 ([some (.ref sa), some (.ref x), some (.ref m), some (.ref oa), some (.int (iI p)), w5, w6, w7, w8], [], hs)) := by
  obtain ⟨sv, a, ia, ow, dq, sb, ea, hd, gs, fs, X⟩ := J.1.xo
  obtain ⟨hs', fi', ar', e, J', z1, z2⟩ := J.q (kc := fun _ => 1) (CQ.cg (hA := hA) X J.1.fr J.2.o199 (q_completeRows X J.1.fr J.2)) (E5 := fun a h => t_Ev (t_pg G) t_hd Y_X5_completeRows 0 ([some (.ref a), none, none], [], h)) (K := fun h => t_Ev (t_pg G) t_hd Y_L_law 2718 ([some (.ref sa), some (.ref x), some (.ref m), some (.ref oa), some (.int (iI p)), w5, w6, w7, w8], [], h)) (Z := fun h => rI 0 h) fun hs1 J1 => J1.at (P := fun h => MM m hs1.1 hs1.2 (fun _ => 1) (t_Ev (t_pg G) t_hd Y_X5_completeRows 0 ([some (.ref m), none, none], [], h)) _ _ _) (MM.ofQ J.2 (m_completeRows J.2))
  refine ⟨hs', fi', ar', w5, w6, w7, w8, Eq.trans ?_ e, J', z1, z2⟩
  rw [b_L_law_902, X.kx, Option.bind_some]
  rfl
theorem lc_915 (K : KV G hA sa len f) (J : JV G hA x m oa hs fi ar) {p : Int} (hp : 0 ≤ p ∧ p + 6 ≤ len) {w5 w6 w7 w8 : Option Value} : StL G hA sa x m oa p hs (t_Ev (t_pg G) t_hd Y_L_law 915 ([some (.ref sa), some (.ref x), some (.ref m), some (.ref oa), some (.int (iI p)), w5, w6, w7, w8], [], hs)) := by
  obtain ⟨sv, a, ia, ow, dq, sb, ea, hd, gs, fs, X⟩ := J.1.xo
  obtain ⟨hs', fi', ar', e, J', z1, z2⟩ := J.q (kc := fun _ => 1) (CQ.cg (hA := hA) X J.1.fr J.2.o199 (q_undoableChanges X J.1.fr J.2)) (E5 := fun a h => t_Ev (t_pg G) t_hd Y_X5_undoableChanges 0 ([some (.ref a)], [], h)) (K := fun h => t_Ev (t_pg G) t_hd Y_L_law 2718 ([some (.ref sa), some (.ref x), some (.ref m), some (.ref oa), some (.int (iI p)), w5, w6, w7, w8], [], h)) (Z := fun h => rI 0 h) fun hs1 J1 => J1.at (P := fun h => MM m hs1.1 hs1.2 (fun _ => 1) (t_Ev (t_pg G) t_hd Y_X5_undoableChanges 0 ([some (.ref m)], [], h)) _ _ _) (MM.ofQ J.2 (m_undoableChanges))
  refine ⟨hs', fi', ar', w5, w6, w7, w8, Eq.trans ?_ e, J', z1, z2⟩
  rw [b_L_law_915, X.kx, Option.bind_some]
  rfl
theorem lc_1550 (K : KV G hA sa len f) (J : JV G hA x m oa hs fi ar) {p : Int} (hp : 0 ≤ p ∧ p + 6 ≤ len) {w5 w6 w7 w8 : Option Value} : StL G hA sa x m oa p hs (t_Ev (t_pg G) t_hd Y_L_law 1550 ([some (.ref sa), some (.ref x), some (.ref m), some (.ref oa), some (.int (iI p)), w5, w6, w7, w8], [], hs)) := by
  obtain ⟨sv, a, ia, ow, dq, sb, ea, hd, gs, fs, X⟩ := J.1.xo
  obtain ⟨hs', fi', ar', e, J', z1, z2⟩ := J.q (kc := fun _ => 1) (CQ.cg (hA := hA) X J.1.fr J.2.o199 (q_playerToMove X J.1.fr J.2)) (E5 := fun a h => t_Ev (t_pg G) t_hd Y_X5_playerToMove 0 ([some (.ref a)], [], h)) (K := fun h => t_Ev (t_pg G) t_hd Y_L_law 2718 ([some (.ref sa), some (.ref x), some (.ref m), some (.ref oa), some (.int (iI p)), w5, w6, w7, w8], [], h)) (Z := fun h => rI 0 h) fun hs1 J1 => J1.at (P := fun h => MM m hs1.1 hs1.2 (fun _ => 1) (t_Ev (t_pg G) t_hd Y_X5_playerToMove 0 ([some (.ref m)], [], h)) _ _ _) (MM.ofQ J.2 (m_playerToMove J.2))
  refine ⟨hs', fi', ar', w5, w6, w7, w8, Eq.trans ?_ e, J', z1, z2⟩
  rw [b_L_law_1550, X.kx, Option.bind_some]
  rfl
theorem lc_1563 (K : KV G hA sa len f) (J : JV G hA x m oa hs fi ar) {p : Int} (hp : 0 ≤ p ∧ p + 6 ≤ len) {w5 w6 w7 w8 : Option Value} : StL G hA sa x m oa p hs (t_Ev (t_pg G) t_hd Y_L_law 1563 ([some (.ref sa), some (.ref x), some (.ref m), some (.ref oa), some (.int (iI p)), w5, w6, w7, w8], [], hs)) := by
  obtain ⟨sv, a, ia, ow, dq, sb, ea, hd, gs, fs, X⟩ := J.1.xo
  obtain ⟨hs', fi', ar', e, J', z1, z2⟩ := J.q (kc := fun _ => 1) (CQ.cg (hA := hA) X J.1.fr J.2.o199 (q_isOver X J.1.fr J.2)) (E5 := fun a h => t_Ev (t_pg G) t_hd Y_X5_isOver 0 ([some (.ref a)], [], h)) (K := fun h => t_Ev (t_pg G) t_hd Y_L_law 2718 ([some (.ref sa), some (.ref x), some (.ref m), some (.ref oa), some (.int (iI p)), w5, w6, w7, w8], [], h)) (Z := fun h => rI 0 h) fun hs1 J1 => J1.at (P := fun h => MM m hs1.1 hs1.2 (fun _ => 1) (t_Ev (t_pg G) t_hd Y_X5_isOver 0 ([some (.ref m)], [], h)) _ _ _) (MM.ofQ J.2 (m_isOver J.2))
  refine ⟨hs', fi', ar', w5, w6, w7, w8, Eq.trans ?_ e, J', z1, z2⟩
  rw [b_L_law_1563, X.kx, Option.bind_some]
  rfl
theorem lc_1576 (K : KV G hA sa len f) (J : JV G hA x m oa hs fi ar) {p : Int} (hp : 0 ≤ p ∧ p + 6 ≤ len) {w5 w6 w7 w8 : Option Value} : StL G hA sa x m oa p hs (t_Ev (t_pg G) t_hd Y_L_law 1576 ([some (.ref sa), some (.ref x), some (.ref m), some (.ref oa), some (.int (iI p)), w5, w6, w7, w8], [], hs)) := by
  obtain ⟨sv, a, ia, ow, dq, sb, ea, hd, gs, fs, X⟩ := J.1.xo
  obtain ⟨hs', fi', ar', e, J', z1, z2⟩ := J.q (kc := fun _ => 1) (CQ.cg (hA := hA) X J.1.fr J.2.o199 (q_leader X J.1.fr J.2)) (E5 := fun a h => t_Ev (t_pg G) t_hd Y_X5_leader 0 ([some (.ref a), none], [], h)) (K := fun h => t_Ev (t_pg G) t_hd Y_L_law 2718 ([some (.ref sa), some (.ref x), some (.ref m), some (.ref oa), some (.int (iI p)), w5, w6, w7, w8], [], h)) (Z := fun h => rI 0 h) fun hs1 J1 => J1.at (P := fun h => MM m hs1.1 hs1.2 (fun _ => 1) (t_Ev (t_pg G) t_hd Y_X5_leader 0 ([some (.ref m), none], [], h)) _ _ _) (MM.ofQ J.2 (m_leader J.2))
  refine ⟨hs', fi', ar', w5, w6, w7, w8, Eq.trans ?_ e, J', z1, z2⟩
  rw [b_L_law_1576, X.kx, Option.bind_some]
  rfl
theorem lc_2336 (K : KV G hA sa len f) (J : JV G hA x m oa hs fi ar) {p : Int} (hp : 0 ≤ p ∧ p + 6 ≤ len) {w5 w6 w7 w8 : Option Value} : StL G hA sa x m oa p hs (t_Ev (t_pg G) t_hd Y_L_law 2336 ([some (.ref sa), some (.ref x), some (.ref m), some (.ref oa), some (.int (iI p)), w5, w6, w7, w8], [], hs)) := by
  obtain ⟨sv, a, ia, ow, dq, sb, ea, hd, gs, fs, X⟩ := J.1.xo
  obtain ⟨hs', fi', ar', e, J', z1, z2⟩ := J.q (kc := fun _ => 1) (CQ.cg (hA := hA) X J.1.fr J.2.o199 (q_bestShape X J.1.fr J.2 (J.1.ch K))) (E5 := fun a h => t_Ev (t_pg G) t_hd Y_X5_bestShape 0 ([some (.ref a)], [], h)) (K := fun h => t_Ev (t_pg G) t_hd Y_L_law 2718 ([some (.ref sa), some (.ref x), some (.ref m), some (.ref oa), some (.int (iI p)), w5, w6, w7, w8], [], h)) (Z := fun h => rI 0 h) fun hs1 J1 => J1.at (P := fun h => MM m hs1.1 hs1.2 (fun _ => 1) (t_Ev (t_pg G) t_hd Y_X5_bestShape 0 ([some (.ref m)], [], h)) _ _ _) (MM.ofQ J.2 (m_bestShape J.2))
  refine ⟨hs', fi', ar', w5, w6, w7, w8, Eq.trans ?_ e, J', z1, z2⟩
  rw [b_L_law_2336, X.kx, Option.bind_some]
  rfl
theorem lc_2349 (K : KV G hA sa len f) (J : JV G hA x m oa hs fi ar) {p : Int} (hp : 0 ≤ p ∧ p + 6 ≤ len) {w5 w6 w7 w8 : Option Value} : StL G hA sa x m oa p hs (t_Ev (t_pg G) t_hd Y_L_law 2349 ([some (.ref sa), some (.ref x), some (.ref m), some (.ref oa), some (.int (iI p)), w5, w6, w7, w8], [], hs)) := by
  obtain ⟨sv, a, ia, ow, dq, sb, ea, hd, gs, fs, X⟩ := J.1.xo
  obtain ⟨hs', fi', ar', e, J', z1, z2⟩ := J.q (kc := fun _ => 1) (CQ.cg (hA := hA) X J.1.fr J.2.o199 (q_bestRotation X J.1.fr J.2 (J.1.ch K))) (E5 := fun a h => t_Ev (t_pg G) t_hd Y_X5_bestRotation 0 ([some (.ref a)], [], h)) (K := fun h => t_Ev (t_pg G) t_hd Y_L_law 2718 ([some (.ref sa), some (.ref x), some (.ref m), some (.ref oa), some (.int (iI p)), w5, w6, w7, w8], [], h)) (Z := fun h => rI 0 h) fun hs1 J1 => J1.at (P := fun h => MM m hs1.1 hs1.2 (fun _ => 1) (t_Ev (t_pg G) t_hd Y_X5_bestRotation 0 ([some (.ref m)], [], h)) _ _ _) (MM.ofQ J.2 (m_bestRotation J.2))
  refine ⟨hs', fi', ar', w5, w6, w7, w8, Eq.trans ?_ e, J', z1, z2⟩
  rw [b_L_law_2349, X.kx, Option.bind_some]
  rfl
theorem lc_2362 (K : KV G hA sa len f) (J : JV G hA x m oa hs fi ar) {p : Int} (hp : 0 ≤ p ∧ p + 6 ≤ len) {w5 w6 w7 w8 : Option Value} : StL G hA sa x m oa p hs (t_Ev (t_pg G) t_hd Y_L_law 2362 ([some (.ref sa), some (.ref x), some (.ref m), some (.ref oa), some (.int (iI p)), w5, w6, w7, w8], [], hs)) := by
  obtain ⟨sv, a, ia, ow, dq, sb, ea, hd, gs, fs, X⟩ := J.1.xo
  obtain ⟨hs', fi', ar', e, J', z1, z2⟩ := J.q (kc := fun _ => 1) (CQ.cg (hA := hA) X J.1.fr J.2.o199 (q_bestColumn X J.1.fr J.2 (J.1.ch K))) (E5 := fun a h => t_Ev (t_pg G) t_hd Y_X5_bestColumn 0 ([some (.ref a)], [], h)) (K := fun h => t_Ev (t_pg G) t_hd Y_L_law 2718 ([some (.ref sa), some (.ref x), some (.ref m), some (.ref oa), some (.int (iI p)), w5, w6, w7, w8], [], h)) (Z := fun h => rI 0 h) fun hs1 J1 => J1.at (P := fun h => MM m hs1.1 hs1.2 (fun _ => 1) (t_Ev (t_pg G) t_hd Y_X5_bestColumn 0 ([some (.ref m)], [], h)) _ _ _) (MM.ofQ J.2 (m_bestColumn J.2))
  refine ⟨hs', fi', ar', w5, w6, w7, w8, Eq.trans ?_ e, J', z1, z2⟩
  rw [b_L_law_2362, X.kx, Option.bind_some]
  rfl
theorem lc_2375 (K : KV G hA sa len f) (J : JV G hA x m oa hs fi ar) {p : Int} (hp : 0 ≤ p ∧ p + 6 ≤ len) {w5 w6 w7 w8 : Option Value} : StL G hA sa x m oa p hs (t_Ev (t_pg G) t_hd Y_L_law 2375 ([some (.ref sa), some (.ref x), some (.ref m), some (.ref oa), some (.int (iI p)), w5, w6, w7, w8], [], hs)) := by
  obtain ⟨sv, a, ia, ow, dq, sb, ea, hd, gs, fs, X⟩ := J.1.xo
  obtain ⟨hs', fi', ar', e, J', z1, z2⟩ := J.q (kc := fun _ => 1) (CQ.cg (hA := hA) X J.1.fr J.2.o199 (q_bestRow X J.1.fr J.2 (J.1.ch K))) (E5 := fun a h => t_Ev (t_pg G) t_hd Y_X5_bestRow 0 ([some (.ref a)], [], h)) (K := fun h => t_Ev (t_pg G) t_hd Y_L_law 2718 ([some (.ref sa), some (.ref x), some (.ref m), some (.ref oa), some (.int (iI p)), w5, w6, w7, w8], [], h)) (Z := fun h => rI 0 h) fun hs1 J1 => J1.at (P := fun h => MM m hs1.1 hs1.2 (fun _ => 1) (t_Ev (t_pg G) t_hd Y_X5_bestRow 0 ([some (.ref m)], [], h)) _ _ _) (MM.ofQ J.2 (m_bestRow J.2))
  refine ⟨hs', fi', ar', w5, w6, w7, w8, Eq.trans ?_ e, J', z1, z2⟩
  rw [b_L_law_2375, X.kx, Option.bind_some]
  rfl
theorem lc_2388 (K : KV G hA sa len f) (J : JV G hA x m oa hs fi ar) {p : Int} (hp : 0 ≤ p ∧ p + 6 ≤ len) {w5 w6 w7 w8 : Option Value} : StL G hA sa x m oa p hs (t_Ev (t_pg G) t_hd Y_L_law 2388 ([some (.ref sa), some (.ref x), some (.ref m), some (.ref oa), some (.int (iI p)), w5, w6, w7, w8], [], hs)) := by
  obtain ⟨sv, a, ia, ow, dq, sb, ea, hd, gs, fs, X⟩ := J.1.xo
  obtain ⟨hs', fi', ar', e, J', z1, z2⟩ := J.q (kc := fun _ => 1) (CQ.cg (hA := hA) X J.1.fr J.2.o199 (q_bestStrapEffect X J.1.fr J.2 (J.1.ch K))) (E5 := fun a h => t_Ev (t_pg G) t_hd Y_X5_bestStrapEffect 0 ([some (.ref a), none, none, none, none, none, none], [], h)) (K := fun h => t_Ev (t_pg G) t_hd Y_L_law 2718 ([some (.ref sa), some (.ref x), some (.ref m), some (.ref oa), some (.int (iI p)), w5, w6, w7, w8], [], h)) (Z := fun h => rI 0 h) fun hs1 J1 => J1.at (P := fun h => MM m hs1.1 hs1.2 (fun _ => 1) (t_Ev (t_pg G) t_hd Y_X5_bestStrapEffect 0 ([some (.ref m), none, none, none, none, none, none], [], h)) _ _ _) (MM.ofQ J.2 (m_bestStrapEffect J.2))
  refine ⟨hs', fi', ar', w5, w6, w7, w8, Eq.trans ?_ e, J', z1, z2⟩
  rw [b_L_law_2388, X.kx, Option.bind_some]
  rfl
theorem lc_2401 (K : KV G hA sa len f) (J : JV G hA x m oa hs fi ar) {p : Int} (hp : 0 ≤ p ∧ p + 6 ≤ len) {w5 w6 w7 w8 : Option Value} : StL G hA sa x m oa p hs (t_Ev (t_pg G) t_hd Y_L_law 2401 ([some (.ref sa), some (.ref x), some (.ref m), some (.ref oa), some (.int (iI p)), w5, w6, w7, w8], [], hs)) := by
  obtain ⟨sv, a, ia, ow, dq, sb, ea, hd, gs, fs, X⟩ := J.1.xo
  obtain ⟨L, lf⟩ := Lf_ex (s := ar 0) J.2.w.bd.dm J.2.w.rb
  obtain ⟨hs', fi', ar', e, J', z1, z2⟩ := J.q (kc := fun _ => 1) (CQ.cg (hA := hA) X J.1.fr J.2.o199 (q_regionCount X J.1.fr J.2 lf)) (E5 := fun a h => t_Ev (t_pg G) t_hd Y_X5_regionCount 0 ([some (.ref a)], [], h)) (K := fun h => t_Ev (t_pg G) t_hd Y_L_law 2718 ([some (.ref sa), some (.ref x), some (.ref m), some (.ref oa), some (.int (iI p)), w5, w6, w7, w8], [], h)) (Z := fun h => rI 0 h) fun hs1 J1 => J1.at (P := fun h => MM m hs1.1 hs1.2 (fun _ => 1) (t_Ev (t_pg G) t_hd Y_X5_regionCount 0 ([some (.ref m)], [], h)) _ _ _) (MM.ofQ J.2 (m_regionCount J.2 lf))
  refine ⟨hs', fi', ar', w5, w6, w7, w8, Eq.trans ?_ e, J', z1, z2⟩
  rw [b_L_law_2401, X.kx, Option.bind_some]
  rfl
theorem lc_2414 (K : KV G hA sa len f) (J : JV G hA x m oa hs fi ar) {p : Int} (hp : 0 ≤ p ∧ p + 6 ≤ len) {w5 w6 w7 w8 : Option Value} : StL G hA sa x m oa p hs (t_Ev (t_pg G) t_hd Y_L_law 2414 ([some (.ref sa), some (.ref x), some (.ref m), some (.ref oa), some (.int (iI p)), w5, w6, w7, w8], [], hs)) := by
  obtain ⟨sv, a, ia, ow, dq, sb, ea, hd, gs, fs, X⟩ := J.1.xo
  obtain ⟨L, lf⟩ := Lf_ex (s := ar 0) J.2.w.bd.dm J.2.w.rb
  obtain ⟨hs', fi', ar', e, J', z1, z2⟩ := J.q (kc := fun _ => 1) (CQ.cg (hA := hA) X J.1.fr J.2.o199 (q_largestRegion X J.1.fr J.2 lf (J.1.ic K))) (E5 := fun a h => t_Ev (t_pg G) t_hd Y_X5_largestRegion 0 ([some (.ref a), none, none, none], [], h)) (K := fun h => t_Ev (t_pg G) t_hd Y_L_law 2718 ([some (.ref sa), some (.ref x), some (.ref m), some (.ref oa), some (.int (iI p)), w5, w6, w7, w8], [], h)) (Z := fun h => rI 0 h) fun hs1 J1 => J1.at (P := fun h => MM m hs1.1 hs1.2 (fun _ => 1) (t_Ev (t_pg G) t_hd Y_X5_largestRegion 0 ([some (.ref m), none, none, none], [], h)) _ _ _) (MM.ofQ J.2 (m_largestRegion J.2 lf))
  refine ⟨hs', fi', ar', w5, w6, w7, w8, Eq.trans ?_ e, J', z1, z2⟩
  rw [b_L_law_2414, X.kx, Option.bind_some]
  rfl
theorem lc_2570 (K : KV G hA sa len f) (J : JV G hA x m oa hs fi ar) {p : Int} (hp : 0 ≤ p ∧ p + 6 ≤ len) {w5 w6 w7 w8 : Option Value} : StL G hA sa x m oa p hs (t_Ev (t_pg G) t_hd Y_L_law 2570 ([some (.ref sa), some (.ref x), some (.ref m), some (.ref oa), some (.int (iI p)), w5, w6, w7, w8], [], hs)) := by
  obtain ⟨sv, a, ia, ow, dq, sb, ea, hd, gs, fs, X⟩ := J.1.xo
  obtain ⟨hs', fi', ar', e, J', z1, z2⟩ := J.q (kc := fun _ => 1) (CQ.cg (hA := hA) X J.1.fr J.2.o199 (q_deadCells X J.1.fr J.2 (J.1.ch K) (J.1.la K))) (E5 := fun a h => t_Ev (t_pg G) t_hd Y_X5_deadCells 0 ([some (.ref a), none, none, none], [], h)) (K := fun h => t_Ev (t_pg G) t_hd Y_L_law 2718 ([some (.ref sa), some (.ref x), some (.ref m), some (.ref oa), some (.int (iI p)), w5, w6, w7, w8], [], h)) (Z := fun h => rI 0 h) fun hs1 J1 => J1.at (P := fun h => MM m hs1.1 hs1.2 (fun _ => 1) (t_Ev (t_pg G) t_hd Y_X5_deadCells 0 ([some (.ref m), none, none, none], [], h)) _ _ _) (MM.ofQ J.2 (m_deadCells J.2))
  refine ⟨hs', fi', ar', w5, w6, w7, w8, Eq.trans ?_ e, J', z1, z2⟩
  rw [b_L_law_2570, X.kx, Option.bind_some]
  rfl
theorem lc_2583 (K : KV G hA sa len f) (J : JV G hA x m oa hs fi ar) {p : Int} (hp : 0 ≤ p ∧ p + 6 ≤ len) {w5 w6 w7 w8 : Option Value} : StL G hA sa x m oa p hs (t_Ev (t_pg G) t_hd Y_L_law 2583 ([some (.ref sa), some (.ref x), some (.ref m), some (.ref oa), some (.int (iI p)), w5, w6, w7, w8], [], hs)) := by
  obtain ⟨sv, a, ia, ow, dq, sb, ea, hd, gs, fs, X⟩ := J.1.xo
  obtain ⟨hs', fi', ar', e, J', z1, z2⟩ := J.q (kc := fun _ => 1) (CQ.cg (hA := hA) X J.1.fr J.2.o199 (q_inconsistencies X J.1.fr J.2 (J.1.ch K))) (E5 := fun a h => t_Ev (t_pg G) t_hd Y_X5_inconsistencies 0 ([some (.ref a), none, none, none], [], h)) (K := fun h => t_Ev (t_pg G) t_hd Y_L_law 2718 ([some (.ref sa), some (.ref x), some (.ref m), some (.ref oa), some (.int (iI p)), w5, w6, w7, w8], [], h)) (Z := fun h => rI 0 h) fun hs1 J1 => J1.at (P := fun h => MM m hs1.1 hs1.2 (fun _ => 1) (t_Ev (t_pg G) t_hd Y_X5_inconsistencies 0 ([some (.ref m), none, none, none], [], h)) _ _ _) (MM.ofQ J.2 (m_inconsistencies J.2))
  refine ⟨hs', fi', ar', w5, w6, w7, w8, Eq.trans ?_ e, J', z1, z2⟩
  rw [b_L_law_2583, X.kx, Option.bind_some]
  rfl
theorem lc_413 (K : KV G hA sa len f) (J : JV G hA x m oa hs fi ar) {p : Int} (hp : 0 ≤ p ∧ p + 6 ≤ len) {w5 w6 w7 w8 : Option Value} : StL G hA sa x m oa p hs (t_Ev (t_pg G) t_hd Y_L_law 413 ([some (.ref sa), some (.ref x), some (.ref m), some (.ref oa), some (.int (iI p)), w5, w6, w7, w8], [], hs)) := by
  have n13 := J.2.n13
  obtain ⟨n, hn⟩ := Int.eq_ofNat_of_zero_le n13.1
  have c := CG.of (c_load J.1.xo J.1.fr J.2 (J.1.ch K) (J.1.cw K) J.1.hDn hn) (by decide) (by decide)
  obtain ⟨hs', fi', ar', e, J', z1, z2⟩ := J.q (kc := fun _ => 1) c (E5 := fun a h => t_Ev (t_pg G) t_hd Y_X5_load 0 ([some (.ref a), none], [], h)) (K := fun h => t_Ev (t_pg G) t_hd Y_L_law 2718 ([some (.ref sa), some (.ref x), some (.ref m), some (.ref oa), some (.int (iI p)), w5, w6, w7, w8], [], h)) (Z := fun h => rI 0 h) fun hs1 J1 => J1.at (P := fun h => MM m hs1.1 hs1.2 (fun _ => 1) (t_Ev (t_pg G) t_hd Y_X5_load 0 ([some (.ref m), none], [], h)) _ _ _) (m_load (J1.wds K) J.2 hn)
  refine ⟨hs', fi', ar', w5, w6, w7, w8, Eq.trans ?_ e, J', z1, z2⟩
  rw [b_L_law_413, J.1.kx, Option.bind_some]
  rfl
theorem lc_426 (K : KV G hA sa len f) (J : JV G hA x m oa hs fi ar) {p : Int} (hp : 0 ≤ p ∧ p + 6 ≤ len) {w5 w6 w7 w8 : Option Value} : StL G hA sa x m oa p hs (t_Ev (t_pg G) t_hd Y_L_law 426 ([some (.ref sa), some (.ref x), some (.ref m), some (.ref oa), some (.int (iI p)), w5, w6, w7, w8], [], hs)) := by
  have n13 := J.2.n13
  obtain ⟨n, hn⟩ := Int.eq_ofNat_of_zero_le n13.1
  have c := CG.of (c_play J.1.xo J.1.fr J.2 (J.1.ch K) (J.1.cw K) J.1.hDn hn) (by decide) (by decide)
  obtain ⟨hs', fi', ar', e, J', z1, z2⟩ := J.q (kc := fun _ => 1) c (E5 := fun a h => t_Ev (t_pg G) t_hd Y_X5_play 0 ([some (.ref a)], [], h)) (K := fun h => t_Ev (t_pg G) t_hd Y_L_law 2718 ([some (.ref sa), some (.ref x), some (.ref m), some (.ref oa), some (.int (iI p)), w5, w6, w7, w8], [], h)) (Z := fun h => rI 0 h) fun hs1 J1 => J1.at (P := fun h => MM m hs1.1 hs1.2 (fun _ => 1) (t_Ev (t_pg G) t_hd Y_X5_play 0 ([some (.ref m)], [], h)) _ _ _) (m_play (J1.wds K) J.2 hn)
  refine ⟨hs', fi', ar', w5, w6, w7, w8, Eq.trans ?_ e, J', z1, z2⟩
  rw [b_L_law_426, J.1.kx, Option.bind_some]
  rfl
theorem lc_2680 (K : KV G hA sa len f) (J : JV G hA x m oa hs fi ar) {p : Int} (hp : 0 ≤ p ∧ p + 6 ≤ len) {w5 w6 w7 w8 : Option Value} : StL G hA sa x m oa p hs (t_Ev (t_pg G) t_hd Y_L_law 2680 ([some (.ref sa), some (.ref x), some (.ref m), some (.ref oa), some (.int (iI p)), w5, w6, w7, w8], [], hs)) := by
  obtain ⟨sv, a, ia, ow, dq, sb, ea, hd, gs, fs, X⟩ := J.1.xo
  obtain ⟨hs', fi', ar', e, J', z1, z2⟩ := J.q (kc := fun _ => 1) (c_writeTrunk X J.1.fr J.2 J.1.hDn (J.1.w0 K) (J.1.w1 K)).cg (E5 := fun a h => t_Ev (t_pg G) t_hd Y_X5_writeTrunk 0 ([some (.ref a), none, none, none], [], h)) (K := fun h => t_Ev (t_pg G) t_hd Y_L_law 2718 ([some (.ref sa), some (.ref x), some (.ref m), some (.ref oa), some (.int (iI p)), w5, w6, w7, w8], [], h)) (Z := fun h => rI 0 h) fun hs1 J1 => J1.at (P := fun h => MM m hs1.1 hs1.2 (fun _ => 1) (t_Ev (t_pg G) t_hd Y_X5_writeTrunk 0 ([some (.ref m), none, none, none], [], h)) _ _ _) (m_writeTrunk J.2)
  refine ⟨hs', fi', ar', w5, w6, w7, w8, Eq.trans ?_ e, J', z1, z2⟩
  rw [b_L_law_2680, X.kx, Option.bind_some]
  rfl
end CSQ
