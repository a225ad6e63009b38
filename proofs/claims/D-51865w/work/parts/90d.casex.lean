/-! ===== the law's cases: wrapped calls ===== -/
section CSX
variable {G : tG} {hA hs : tHS} {sa len x m oa : Nat} {f : Nat → Int32} {fi : Nat → Int} {ar : Nat → Nat → Int}
theorem lc_357 (K : KV G hA sa len f) (J : JV G hA x m oa hs fi ar) {p : Int} (hp : 0 ≤ p ∧ p + 6 ≤ len) {w5 w6 w7 w8 : Option Value} : StL G hA sa x m oa p hs (t_Ev (t_pg G) t_hd Y_L_law 357 ([some (.ref sa), some (.ref x), some (.ref m), some (.ref oa), some (.int (iI p)), w5, w6, w7, w8], [], hs)) := by
  obtain ⟨sv, a, ia, ow, dq, sb, ea, hd, gs, fs, X⟩ := J.1.xo
  obtain ⟨a1, i1, s1⟩ := i32 (f (p + 1).toNat)
  have d1 : ldI hs.1 (.ref sa) (iI (p + 1)) 0 0 = some (iI a1) := (J.1.ld K (by omega) (by omega)).trans (congrArg some s1)
  obtain ⟨hs1, e1, J1, l1, z1, z2⟩ := J.w (y := Y_X0_truncateInput) (pc := 4) (ls := [some (.ref x), some (.int (iI a1)), some (.ref oa), none]) (kc := (fun _ => 1)) ((a_truncate X J.1.fr J.2 i1).cg) (by first | exact J.2.o199 | (unfold mvF; split <;> exact J.2.o199) | (split <;> exact J.2.o199)) (fun κ ax hx h hk => by
    have hs : κ = 15 := by
      (repeat' split at h) <;> first | (cases h; done) | (cases h; decide)
    rcases hs with rfl
    · exact (thr_to (pc' := 12) hk rfl).trans (by rw [b_X0_truncateInput_12]; rfl)
    )
  have g1 : ldI hs1.1 (.ref sa) (iI (p + 1)) 0 0 = some (iI a1) := (J1.ld K (by omega) (by omega)).trans (congrArg some s1)
  obtain ⟨hs', fi', ar', xb, e, J', hz⟩ := J1.stX (E5 := fun a => t_Ev (t_pg G) t_hd Y_X5_truncateInput 0 ([some (.ref a), some (.int (iI a1))], [], hs1)) (K := fun xa xb h => t_Ev (t_pg G) t_hd Y_L_law 410 ([some (.ref sa), some (.ref x), some (.ref m), some (.ref oa), some (.int (iI p)), (some (.int xa)), (some (.int xb)), w7, w8], [], h)) (Z := fun h => rI 0 h) (J1.at (P := fun h => MM m hs1.1 hs1.2 (fun _ => 1) (t_Ev (t_pg G) t_hd Y_X5_truncateInput 0 ([some (.ref m), some (.int (iI a1))], [], h)) _ _ _) (m_truncate rfl J.2 i1)) l1 (fun κ _ => ⟨Int.le_refl 1, show (1 : Int) ≤ 3 by decide⟩)
  refine ⟨hs', fi', ar', some (.int _), some (.int xb), w7, w8, Eq.trans ?_ (e.trans (b_L_law_410 ..)), J', by rw [hz]; exact z1, by rw [hz]; exact z2⟩
  rw [b_L_law_357]
  simp only [iI_add, d1, Option.bind_some]
  rw [b_X0_truncateInput_0, J.1.kx, Option.bind_some]
  refine (congrArg (fun o => bndI o _ tX) e1).trans ?_
  rw [bI_rI]
  simp only [g1, Option.bind_some]
  (try rfl)
theorem lc_465 (K : KV G hA sa len f) (J : JV G hA x m oa hs fi ar) {p : Int} (hp : 0 ≤ p ∧ p + 6 ≤ len) {w5 w6 w7 w8 : Option Value} : StL G hA sa x m oa p hs (t_Ev (t_pg G) t_hd Y_L_law 465 ([some (.ref sa), some (.ref x), some (.ref m), some (.ref oa), some (.int (iI p)), w5, w6, w7, w8], [], hs)) := by
  obtain ⟨sv, a, ia, ow, dq, sb, ea, hd, gs, fs, X⟩ := J.1.xo
  obtain ⟨a1, i1, s1⟩ := i32 (f (p + 1).toNat)
  have d1 : ldI hs.1 (.ref sa) (iI (p + 1)) 0 0 = some (iI a1) := (J.1.ld K (by omega) (by omega)).trans (congrArg some s1)
  obtain ⟨a2, i2, s2⟩ := i32 (f (p + 2).toNat)
  have d2 : ldI hs.1 (.ref sa) (iI (p + 2)) 0 0 = some (iI a2) := (J.1.ld K (by omega) (by omega)).trans (congrArg some s2)
  obtain ⟨a3, i3, s3⟩ := i32 (f (p + 3).toNat)
  have d3 : ldI hs.1 (.ref sa) (iI (p + 3)) 0 0 = some (iI a3) := (J.1.ld K (by omega) (by omega)).trans (congrArg some s3)
  obtain ⟨a4, i4, s4⟩ := i32 (f (p + 4).toNat)
  have d4 : ldI hs.1 (.ref sa) (iI (p + 4)) 0 0 = some (iI a4) := (J.1.ld K (by omega) (by omega)).trans (congrArg some s4)
  obtain ⟨hs1, e1, J1, l1, z1, z2⟩ := J.w (y := Y_X0_place) (pc := 9) (ls := [some (.ref x), some (.int (iI a1)), some (.int (iI a2)), some (.int (iI a3)), some (.int (iI a4)), some (.ref oa), none]) (kc := kcA) ((a_place X J.1.fr J.2 (J.1.ch K) J.1.hDn i1 i2 i3 i4).cg) (by first | exact J.2.o199 | (unfold mvF; split <;> exact J.2.o199) | (split <;> exact J.2.o199)) (fun κ ax hx h hk => by
    have hs : κ = 15 ∨ κ = 17 ∨ κ = 16 := by
      (try unfold plR at h); (repeat' split at h) <;> first | (cases h; done) | (cases h; decide)
    rcases hs with rfl | rfl | rfl
    · exact (thr_to (pc' := 17) hk rfl).trans (by rw [b_X0_place_17]; rfl)
    · exact (thr_to (pc' := 21) hk rfl).trans (by rw [b_X0_place_21]; rfl)
    · exact (thr_to (pc' := 25) hk rfl).trans (by rw [b_X0_place_25]; rfl)
    )
  have g1 : ldI hs1.1 (.ref sa) (iI (p + 1)) 0 0 = some (iI a1) := (J1.ld K (by omega) (by omega)).trans (congrArg some s1)
  have g2 : ldI hs1.1 (.ref sa) (iI (p + 2)) 0 0 = some (iI a2) := (J1.ld K (by omega) (by omega)).trans (congrArg some s2)
  have g3 : ldI hs1.1 (.ref sa) (iI (p + 3)) 0 0 = some (iI a3) := (J1.ld K (by omega) (by omega)).trans (congrArg some s3)
  have g4 : ldI hs1.1 (.ref sa) (iI (p + 4)) 0 0 = some (iI a4) := (J1.ld K (by omega) (by omega)).trans (congrArg some s4)
  obtain ⟨hs', fi', ar', xb, e, J', hz⟩ := J1.stX (E5 := fun a => t_Ev (t_pg G) t_hd Y_X5_place 0 ([some (.ref a), some (.int (iI a1)), some (.int (iI a2)), some (.int (iI a3)), some (.int (iI a4)), none, none], [], hs1)) (K := fun xa xb h => t_Ev (t_pg G) t_hd Y_L_law 554 ([some (.ref sa), some (.ref x), some (.ref m), some (.ref oa), some (.int (iI p)), (some (.int xa)), (some (.int xb)), w7, w8], [], h)) (Z := fun h => rI 0 h) (J1.at (P := fun h => MM m hs1.1 hs1.2 kcA (t_Ev (t_pg G) t_hd Y_X5_place 0 ([some (.ref m), some (.int (iI a1)), some (.int (iI a2)), some (.int (iI a3)), some (.int (iI a4)), none, none], [], h)) _ _ _) (m_place J.2 i1 i2 i3 i4)) l1 (fun κ _ => by (first | (unfold kcA; split <;> (try split) <;> decide) | (unfold kcB; split <;> decide) | (unfold kcR; split <;> decide) | decide))
  refine ⟨hs', fi', ar', some (.int _), some (.int xb), w7, w8, Eq.trans ?_ (e.trans (b_L_law_554 ..)), J', by rw [hz]; exact z1, by rw [hz]; exact z2⟩
  rw [b_L_law_465]
  simp only [iI_add, d1, d2, d3, d4, Option.bind_some]
  rw [b_X0_place_0, J.1.kx, Option.bind_some]
  refine (congrArg (fun o => bndI o _ tX) e1).trans ?_
  rw [bI_rI]
  simp only [g1, g2, g3, g4, Option.bind_some]
  (try rfl)
theorem lc_557 (K : KV G hA sa len f) (J : JV G hA x m oa hs fi ar) {p : Int} (hp : 0 ≤ p ∧ p + 6 ≤ len) {w5 w6 w7 w8 : Option Value} : StL G hA sa x m oa p hs (t_Ev (t_pg G) t_hd Y_L_law 557 ([some (.ref sa), some (.ref x), some (.ref m), some (.ref oa), some (.int (iI p)), w5, w6, w7, w8], [], hs)) := by
  obtain ⟨sv, a, ia, ow, dq, sb, ea, hd, gs, fs, X⟩ := J.1.xo
  obtain ⟨a1, i1, s1⟩ := i32 (f (p + 1).toNat)
  have d1 : ldI hs.1 (.ref sa) (iI (p + 1)) 0 0 = some (iI a1) := (J.1.ld K (by omega) (by omega)).trans (congrArg some s1)
  obtain ⟨a2, i2, s2⟩ := i32 (f (p + 2).toNat)
  have d2 : ldI hs.1 (.ref sa) (iI (p + 2)) 0 0 = some (iI a2) := (J.1.ld K (by omega) (by omega)).trans (congrArg some s2)
  obtain ⟨a3, i3, s3⟩ := i32 (f (p + 3).toNat)
  have d3 : ldI hs.1 (.ref sa) (iI (p + 3)) 0 0 = some (iI a3) := (J.1.ld K (by omega) (by omega)).trans (congrArg some s3)
  obtain ⟨hs1, e1, J1, l1, z1, z2⟩ := J.w (y := Y_X0_fastenStrap) (pc := 7) (ls := [some (.ref x), some (.int (iI a1)), some (.int (iI a2)), some (.int (iI a3)), some (.ref oa), none]) (kc := kcA) ((a_fasten X J.1.fr J.2 J.1.hDn i1 i2 i3).cg) (by first | exact J.2.o199 | (unfold mvF; split <;> exact J.2.o199) | (split <;> exact J.2.o199)) (fun κ ax hx h hk => by
    have hs : κ = 15 ∨ κ = 17 ∨ κ = 16 := by
      (try unfold egR at h); (repeat' split at h) <;> first | (cases h; done) | (cases h; decide)
    rcases hs with rfl | rfl | rfl
    · exact (thr_to (pc' := 15) hk rfl).trans (by rw [b_X0_fastenStrap_15]; rfl)
    · exact (thr_to (pc' := 19) hk rfl).trans (by rw [b_X0_fastenStrap_19]; rfl)
    · exact (thr_to (pc' := 23) hk rfl).trans (by rw [b_X0_fastenStrap_23]; rfl)
    )
  have g1 : ldI hs1.1 (.ref sa) (iI (p + 1)) 0 0 = some (iI a1) := (J1.ld K (by omega) (by omega)).trans (congrArg some s1)
  have g2 : ldI hs1.1 (.ref sa) (iI (p + 2)) 0 0 = some (iI a2) := (J1.ld K (by omega) (by omega)).trans (congrArg some s2)
  have g3 : ldI hs1.1 (.ref sa) (iI (p + 3)) 0 0 = some (iI a3) := (J1.ld K (by omega) (by omega)).trans (congrArg some s3)
  obtain ⟨hs', fi', ar', xb, e, J', hz⟩ := J1.stX (E5 := fun a => t_Ev (t_pg G) t_hd Y_X5_fastenStrap 0 ([some (.ref a), some (.int (iI a1)), some (.int (iI a2)), some (.int (iI a3)), none, none], [], hs1)) (K := fun xa xb h => t_Ev (t_pg G) t_hd Y_L_law 634 ([some (.ref sa), some (.ref x), some (.ref m), some (.ref oa), some (.int (iI p)), (some (.int xa)), (some (.int xb)), w7, w8], [], h)) (Z := fun h => rI 0 h) (J1.at (P := fun h => MM m hs1.1 hs1.2 kcA (t_Ev (t_pg G) t_hd Y_X5_fastenStrap 0 ([some (.ref m), some (.int (iI a1)), some (.int (iI a2)), some (.int (iI a3)), none, none], [], h)) _ _ _) (m_fasten J.2 i1 i2 i3)) l1 (fun κ _ => by (first | (unfold kcA; split <;> (try split) <;> decide) | (unfold kcB; split <;> decide) | (unfold kcR; split <;> decide) | decide))
  refine ⟨hs', fi', ar', some (.int _), some (.int xb), w7, w8, Eq.trans ?_ (e.trans (b_L_law_634 ..)), J', by rw [hz]; exact z1, by rw [hz]; exact z2⟩
  rw [b_L_law_557]
  simp only [iI_add, d1, d2, d3, Option.bind_some]
  rw [b_X0_fastenStrap_0, J.1.kx, Option.bind_some]
  refine (congrArg (fun o => bndI o _ tX) e1).trans ?_
  rw [bI_rI]
  simp only [g1, g2, g3, Option.bind_some]
  (try rfl)
theorem lc_637 (K : KV G hA sa len f) (J : JV G hA x m oa hs fi ar) {p : Int} (hp : 0 ≤ p ∧ p + 6 ≤ len) {w5 w6 w7 w8 : Option Value} : StL G hA sa x m oa p hs (t_Ev (t_pg G) t_hd Y_L_law 637 ([some (.ref sa), some (.ref x), some (.ref m), some (.ref oa), some (.int (iI p)), w5, w6, w7, w8], [], hs)) := by
  obtain ⟨sv, a, ia, ow, dq, sb, ea, hd, gs, fs, X⟩ := J.1.xo
  obtain ⟨hs1, e1, J1, l1, z1, z2⟩ := J.w (y := Y_X0_pass) (pc := 3) (ls := [some (.ref x), some (.ref oa), none]) (kc := (fun _ => 1)) ((a_pass X J.1.fr J.2 (J.1.ch K) J.1.hDn).cg) (by first | exact J.2.o199 | (unfold mvF; split <;> exact J.2.o199) | (split <;> exact J.2.o199)) (fun κ ax hx h hk => by
    have hs : κ = 16 := by
      (repeat' split at h) <;> first | (cases h; done) | (cases h; decide)
    rcases hs with rfl
    · exact (thr_to (pc' := 11) hk rfl).trans (by rw [b_X0_pass_11]; rfl)
    )
  obtain ⟨hs', fi', ar', xb, e, J', hz⟩ := J1.stX (E5 := fun a => t_Ev (t_pg G) t_hd Y_X5_pass 0 ([some (.ref a)], [], hs1)) (K := fun xa xb h => t_Ev (t_pg G) t_hd Y_L_law 678 ([some (.ref sa), some (.ref x), some (.ref m), some (.ref oa), some (.int (iI p)), (some (.int xa)), (some (.int xb)), w7, w8], [], h)) (Z := fun h => rI 0 h) (J1.at (P := fun h => MM m hs1.1 hs1.2 (fun _ => 1) (t_Ev (t_pg G) t_hd Y_X5_pass 0 ([some (.ref m)], [], h)) _ _ _) (m_pass rfl J.2)) l1 (fun κ _ => ⟨Int.le_refl 1, show (1 : Int) ≤ 3 by decide⟩)
  refine ⟨hs', fi', ar', some (.int _), some (.int xb), w7, w8, Eq.trans ?_ (e.trans (b_L_law_678 ..)), J', by rw [hz]; exact z1, by rw [hz]; exact z2⟩
  rw [b_L_law_637]
  rw [b_X0_pass_0, J.1.kx, Option.bind_some]
  refine (congrArg (fun o => bndI o _ tX) e1).trans ?_
  rw [bI_rI]
  rfl
theorem lc_681 (K : KV G hA sa len f) (J : JV G hA x m oa hs fi ar) {p : Int} (hp : 0 ≤ p ∧ p + 6 ≤ len) {w5 w6 w7 w8 : Option Value} : StL G hA sa x m oa p hs (t_Ev (t_pg G) t_hd Y_L_law 681 ([some (.ref sa), some (.ref x), some (.ref m), some (.ref oa), some (.int (iI p)), w5, w6, w7, w8], [], hs)) := by
  obtain ⟨sv, a, ia, ow, dq, sb, ea, hd, gs, fs, X⟩ := J.1.xo
  obtain ⟨hs1, e1, J1, l1, z1, z2⟩ := J.w (y := Y_X0_undo) (pc := 3) (ls := [some (.ref x), some (.ref oa), none]) (kc := (fun _ => 1)) ((a_undo X J.1.fr J.2).cg) (by first | exact J.2.o199 | (unfold mvF; split <;> exact J.2.o199) | (split <;> exact J.2.o199)) (fun κ ax hx h hk => by
    have hs : κ = 16 := by
      (repeat' split at h) <;> first | (cases h; done) | (cases h; decide)
    rcases hs with rfl
    · exact (thr_to (pc' := 11) hk rfl).trans (by rw [b_X0_undo_11]; rfl)
    )
  obtain ⟨hs', fi', ar', xb, e, J', hz⟩ := J1.stX (E5 := fun a => t_Ev (t_pg G) t_hd Y_X5_undo 0 ([some (.ref a)], [], hs1)) (K := fun xa xb h => t_Ev (t_pg G) t_hd Y_L_law 722 ([some (.ref sa), some (.ref x), some (.ref m), some (.ref oa), some (.int (iI p)), (some (.int xa)), (some (.int xb)), w7, w8], [], h)) (Z := fun h => rI 0 h) (J1.at (P := fun h => MM m hs1.1 hs1.2 (fun _ => 1) (t_Ev (t_pg G) t_hd Y_X5_undo 0 ([some (.ref m)], [], h)) _ _ _) (m_undo rfl J.2)) l1 (fun κ _ => ⟨Int.le_refl 1, show (1 : Int) ≤ 3 by decide⟩)
  refine ⟨hs', fi', ar', some (.int _), some (.int xb), w7, w8, Eq.trans ?_ (e.trans (b_L_law_722 ..)), J', by rw [hz]; exact z1, by rw [hz]; exact z2⟩
  rw [b_L_law_681]
  rw [b_X0_undo_0, J.1.kx, Option.bind_some]
  refine (congrArg (fun o => bndI o _ tX) e1).trans ?_
  rw [bI_rI]
  rfl
theorem lc_725 (K : KV G hA sa len f) (J : JV G hA x m oa hs fi ar) {p : Int} (hp : 0 ≤ p ∧ p + 6 ≤ len) {w5 w6 w7 w8 : Option Value} : StL G hA sa x m oa p hs (t_Ev (t_pg G) t_hd Y_L_law 725 ([some (.ref sa), some (.ref x), some (.ref m), some (.ref oa), some (.int (iI p)), w5, w6, w7, w8], [], hs)) := by
  obtain ⟨sv, a, ia, ow, dq, sb, ea, hd, gs, fs, X⟩ := J.1.xo
  obtain ⟨a1, i1, s1⟩ := i32 (f (p + 1).toNat)
  have d1 : ldI hs.1 (.ref sa) (iI (p + 1)) 0 0 = some (iI a1) := (J.1.ld K (by omega) (by omega)).trans (congrArg some s1)
  obtain ⟨hs1, e1, J1, l1, z1, z2⟩ := J.w (y := Y_X0_save) (pc := 4) (ls := [some (.ref x), some (.int (iI a1)), some (.ref oa), none]) (kc := (fun _ => 1)) ((a_save X J.1.fr J.2 J.1.hDn i1).cg) (by first | exact J.2.o199 | (unfold mvF; split <;> exact J.2.o199) | (split <;> exact J.2.o199)) (fun κ ax hx h hk => by
    have hs : κ = 15 := by
      (repeat' split at h) <;> first | (cases h; done) | (cases h; decide)
    rcases hs with rfl
    · exact (thr_to (pc' := 12) hk rfl).trans (by rw [b_X0_save_12]; rfl)
    )
  have g1 : ldI hs1.1 (.ref sa) (iI (p + 1)) 0 0 = some (iI a1) := (J1.ld K (by omega) (by omega)).trans (congrArg some s1)
  obtain ⟨hs', fi', ar', xb, e, J', hz⟩ := J1.stX (E5 := fun a => t_Ev (t_pg G) t_hd Y_X5_save 0 ([some (.ref a), some (.int (iI a1))], [], hs1)) (K := fun xa xb h => t_Ev (t_pg G) t_hd Y_L_law 778 ([some (.ref sa), some (.ref x), some (.ref m), some (.ref oa), some (.int (iI p)), (some (.int xa)), (some (.int xb)), w7, w8], [], h)) (Z := fun h => rI 0 h) (J1.at (P := fun h => MM m hs1.1 hs1.2 (fun _ => 1) (t_Ev (t_pg G) t_hd Y_X5_save 0 ([some (.ref m), some (.int (iI a1))], [], h)) _ _ _) (m_save rfl J.2 i1)) l1 (fun κ _ => ⟨Int.le_refl 1, show (1 : Int) ≤ 3 by decide⟩)
  refine ⟨hs', fi', ar', some (.int _), some (.int xb), w7, w8, Eq.trans ?_ (e.trans (b_L_law_778 ..)), J', by rw [hz]; exact z1, by rw [hz]; exact z2⟩
  rw [b_L_law_725]
  simp only [iI_add, d1, Option.bind_some]
  rw [b_X0_save_0, J.1.kx, Option.bind_some]
  refine (congrArg (fun o => bndI o _ tX) e1).trans ?_
  rw [bI_rI]
  simp only [g1, Option.bind_some]
  (try rfl)
theorem lc_781 (K : KV G hA sa len f) (J : JV G hA x m oa hs fi ar) {p : Int} (hp : 0 ≤ p ∧ p + 6 ≤ len) {w5 w6 w7 w8 : Option Value} : StL G hA sa x m oa p hs (t_Ev (t_pg G) t_hd Y_L_law 781 ([some (.ref sa), some (.ref x), some (.ref m), some (.ref oa), some (.int (iI p)), w5, w6, w7, w8], [], hs)) := by
  obtain ⟨sv, a, ia, ow, dq, sb, ea, hd, gs, fs, X⟩ := J.1.xo
  obtain ⟨a1, i1, s1⟩ := i32 (f (p + 1).toNat)
  have d1 : ldI hs.1 (.ref sa) (iI (p + 1)) 0 0 = some (iI a1) := (J.1.ld K (by omega) (by omega)).trans (congrArg some s1)
  obtain ⟨hs1, e1, J1, l1, z1, z2⟩ := J.w (y := Y_X0_restore) (pc := 4) (ls := [some (.ref x), some (.int (iI a1)), some (.ref oa), none]) (kc := kcR) ((a_restore X J.1.fr J.2 J.1.hDn i1).cg) (by first | exact J.2.o199 | (unfold mvF; split <;> exact J.2.o199) | (split <;> exact J.2.o199)) (fun κ ax hx h hk => by
    have hs : κ = 15 ∨ κ = 16 := by
      (repeat' split at h) <;> first | (cases h; done) | (cases h; decide)
    rcases hs with rfl | rfl
    · exact (thr_to (pc' := 12) hk rfl).trans (by rw [b_X0_restore_12]; rfl)
    · exact (thr_to (pc' := 15) hk rfl).trans (by rw [b_X0_restore_15]; rfl)
    )
  have g1 : ldI hs1.1 (.ref sa) (iI (p + 1)) 0 0 = some (iI a1) := (J1.ld K (by omega) (by omega)).trans (congrArg some s1)
  obtain ⟨hs', fi', ar', xb, e, J', hz⟩ := J1.stX (E5 := fun a => t_Ev (t_pg G) t_hd Y_X5_restore 0 ([some (.ref a), some (.int (iI a1)), none], [], hs1)) (K := fun xa xb h => t_Ev (t_pg G) t_hd Y_L_law 834 ([some (.ref sa), some (.ref x), some (.ref m), some (.ref oa), some (.int (iI p)), (some (.int xa)), (some (.int xb)), w7, w8], [], h)) (Z := fun h => rI 0 h) (J1.at (P := fun h => MM m hs1.1 hs1.2 kcR (t_Ev (t_pg G) t_hd Y_X5_restore 0 ([some (.ref m), some (.int (iI a1)), none], [], h)) _ _ _) (m_restore ⟨rfl, rfl⟩ J.2 i1)) l1 (fun κ _ => by (first | (unfold kcA; split <;> (try split) <;> decide) | (unfold kcB; split <;> decide) | (unfold kcR; split <;> decide) | decide))
  refine ⟨hs', fi', ar', some (.int _), some (.int xb), w7, w8, Eq.trans ?_ (e.trans (b_L_law_834 ..)), J', by rw [hz]; exact z1, by rw [hz]; exact z2⟩
  rw [b_L_law_781]
  simp only [iI_add, d1, Option.bind_some]
  rw [b_X0_restore_0, J.1.kx, Option.bind_some]
  refine (congrArg (fun o => bndI o _ tX) e1).trans ?_
  rw [bI_rI]
  simp only [g1, Option.bind_some]
  (try rfl)
theorem lc_928 (K : KV G hA sa len f) (J : JV G hA x m oa hs fi ar) {p : Int} (hp : 0 ≤ p ∧ p + 6 ≤ len) {w5 w6 w7 w8 : Option Value} : StL G hA sa x m oa p hs (t_Ev (t_pg G) t_hd Y_L_law 928 ([some (.ref sa), some (.ref x), some (.ref m), some (.ref oa), some (.int (iI p)), w5, w6, w7, w8], [], hs)) := by
  obtain ⟨sv, a, ia, ow, dq, sb, ea, hd, gs, fs, X⟩ := J.1.xo
  obtain ⟨a1, i1, s1⟩ := i32 (f (p + 1).toNat)
  have d1 : ldI hs.1 (.ref sa) (iI (p + 1)) 0 0 = some (iI a1) := (J.1.ld K (by omega) (by omega)).trans (congrArg some s1)
  obtain ⟨a2, i2, s2⟩ := i32 (f (p + 2).toNat)
  have d2 : ldI hs.1 (.ref sa) (iI (p + 2)) 0 0 = some (iI a2) := (J.1.ld K (by omega) (by omega)).trans (congrArg some s2)
  obtain ⟨hs1, e1, J1, l1, z1, z2⟩ := J.wb (y := Y_X0_isBlocked) (pc := 5) (ls := [some (.ref x), some (.int (iI a1)), some (.int (iI a2)), some (.ref oa), none]) (kc := kcB) (CQ.cg (hA := hA) X J.1.fr J.2.o199 (q_isBlocked X J.1.fr J.2 i1 i2)) (by first | exact J.2.o199 | (unfold mvF; split <;> exact J.2.o199) | (split <;> exact J.2.o199)) (fun w h => by (repeat' split at h) <;> first | (cases h; done) | (cases h; exact bB_01)) (fun κ ax hx h hk => by
    have hs : κ = 17 := by
      (repeat' split at h) <;> first | (cases h; done) | (cases h; decide)
    rcases hs with rfl
    · exact (thr_to (pc' := 20) hk rfl).trans (by rw [b_X0_isBlocked_20]; rfl)
    )
  have g1 : ldI hs1.1 (.ref sa) (iI (p + 1)) 0 0 = some (iI a1) := (J1.ld K (by omega) (by omega)).trans (congrArg some s1)
  have g2 : ldI hs1.1 (.ref sa) (iI (p + 2)) 0 0 = some (iI a2) := (J1.ld K (by omega) (by omega)).trans (congrArg some s2)
  obtain ⟨hs', fi', ar', xb, e, J', hz⟩ := J1.stXB (E5 := fun a => t_Ev (t_pg G) t_hd Y_X5_isBlocked 0 ([some (.ref a), some (.int (iI a1)), some (.int (iI a2))], [], hs1)) (K := fun xa xb h => t_Ev (t_pg G) t_hd Y_L_law 1000 ([some (.ref sa), some (.ref x), some (.ref m), some (.ref oa), some (.int (iI p)), (some (.int xa)), (some (.int xb)), w7, w8], [], h)) (K9 := fun xa xb l c h => t_Ev (t_pg G) t_hd Y_L_law 994 ([some (.ref sa), some (.ref x), some (.ref m), some (.ref oa), some (.int (iI p)), (some (.int xa)), (some (.int xb)), w7, w8], [(.long c), (.long l)], h)) (Z := fun h => rI 0 h) (J1.at (P := fun h => MM m hs1.1 hs1.2 kcB (t_Ev (t_pg G) t_hd Y_X5_isBlocked 0 ([some (.ref m), some (.int (iI a1)), some (.int (iI a2))], [], h)) _ _ _) (MM.ofQ J.2 (m_isBlocked J.2 i1 i2))) l1 (fun κ _ => by (first | (unfold kcA; split <;> (try split) <;> decide) | (unfold kcB; split <;> decide) | (unfold kcR; split <;> decide) | decide)) (fun w h => by (repeat' split at h) <;> first | (cases h; done) | (cases h; exact bB_01)) (fun a b l h => by rw [b_L_law_994, lg_self, if_pos rfl])
  refine ⟨hs', fi', ar', some (.int _), some (.int xb), w7, w8, Eq.trans ?_ (e.trans (b_L_law_1000 ..)), J', by rw [hz]; exact z1, by rw [hz]; exact z2⟩
  rw [b_L_law_928]
  simp only [iI_add, d1, d2, Option.bind_some]
  rw [b_X0_isBlocked_0, J.1.kx, Option.bind_some]
  refine (congrArg (fun o => bndI o _ tX) e1).trans ?_
  rw [bI_rI]
  simp only [g1, g2, Option.bind_some]
  (try rfl)
theorem lc_1003 (K : KV G hA sa len f) (J : JV G hA x m oa hs fi ar) {p : Int} (hp : 0 ≤ p ∧ p + 6 ≤ len) {w5 w6 w7 w8 : Option Value} : StL G hA sa x m oa p hs (t_Ev (t_pg G) t_hd Y_L_law 1003 ([some (.ref sa), some (.ref x), some (.ref m), some (.ref oa), some (.int (iI p)), w5, w6, w7, w8], [], hs)) := by
  obtain ⟨sv, a, ia, ow, dq, sb, ea, hd, gs, fs, X⟩ := J.1.xo
  obtain ⟨a1, i1, s1⟩ := i32 (f (p + 1).toNat)
  have d1 : ldI hs.1 (.ref sa) (iI (p + 1)) 0 0 = some (iI a1) := (J.1.ld K (by omega) (by omega)).trans (congrArg some s1)
  obtain ⟨a2, i2, s2⟩ := i32 (f (p + 2).toNat)
  have d2 : ldI hs.1 (.ref sa) (iI (p + 2)) 0 0 = some (iI a2) := (J.1.ld K (by omega) (by omega)).trans (congrArg some s2)
  obtain ⟨hs1, e1, J1, l1, z1, z2⟩ := J.w (y := Y_X0_pieceAt) (pc := 5) (ls := [some (.ref x), some (.int (iI a1)), some (.int (iI a2)), some (.ref oa), none]) (kc := kcB) (CQ.cg (hA := hA) X J.1.fr J.2.o199 (q_pieceAt X J.1.fr J.2 i1 i2)) (by first | exact J.2.o199 | (unfold mvF; split <;> exact J.2.o199) | (split <;> exact J.2.o199)) (fun κ ax hx h hk => by
    have hs : κ = 17 := by
      (repeat' split at h) <;> first | (cases h; done) | (cases h; decide)
    rcases hs with rfl
    · exact (thr_to (pc' := 13) hk rfl).trans (by rw [b_X0_pieceAt_13]; rfl)
    )
  have g1 : ldI hs1.1 (.ref sa) (iI (p + 1)) 0 0 = some (iI a1) := (J1.ld K (by omega) (by omega)).trans (congrArg some s1)
  have g2 : ldI hs1.1 (.ref sa) (iI (p + 2)) 0 0 = some (iI a2) := (J1.ld K (by omega) (by omega)).trans (congrArg some s2)
  obtain ⟨hs', fi', ar', xb, e, J', hz⟩ := J1.stX (E5 := fun a => t_Ev (t_pg G) t_hd Y_X5_pieceAt 0 ([some (.ref a), some (.int (iI a1)), some (.int (iI a2))], [], hs1)) (K := fun xa xb h => t_Ev (t_pg G) t_hd Y_L_law 1068 ([some (.ref sa), some (.ref x), some (.ref m), some (.ref oa), some (.int (iI p)), (some (.int xa)), (some (.int xb)), w7, w8], [], h)) (Z := fun h => rI 0 h) (J1.at (P := fun h => MM m hs1.1 hs1.2 kcB (t_Ev (t_pg G) t_hd Y_X5_pieceAt 0 ([some (.ref m), some (.int (iI a1)), some (.int (iI a2))], [], h)) _ _ _) (MM.ofQ J.2 (m_pieceAt J.2 i1 i2))) l1 (fun κ _ => by (first | (unfold kcA; split <;> (try split) <;> decide) | (unfold kcB; split <;> decide) | (unfold kcR; split <;> decide) | decide))
  refine ⟨hs', fi', ar', some (.int _), some (.int xb), w7, w8, Eq.trans ?_ (e.trans (b_L_law_1068 ..)), J', by rw [hz]; exact z1, by rw [hz]; exact z2⟩
  rw [b_L_law_1003]
  simp only [iI_add, d1, d2, Option.bind_some]
  rw [b_X0_pieceAt_0, J.1.kx, Option.bind_some]
  refine (congrArg (fun o => bndI o _ tX) e1).trans ?_
  rw [bI_rI]
  simp only [g1, g2, Option.bind_some]
  (try rfl)
theorem lc_1071 (K : KV G hA sa len f) (J : JV G hA x m oa hs fi ar) {p : Int} (hp : 0 ≤ p ∧ p + 6 ≤ len) {w5 w6 w7 w8 : Option Value} : StL G hA sa x m oa p hs (t_Ev (t_pg G) t_hd Y_L_law 1071 ([some (.ref sa), some (.ref x), some (.ref m), some (.ref oa), some (.int (iI p)), w5, w6, w7, w8], [], hs)) := by
  obtain ⟨sv, a, ia, ow, dq, sb, ea, hd, gs, fs, X⟩ := J.1.xo
  obtain ⟨a1, i1, s1⟩ := i32 (f (p + 1).toNat)
  have d1 : ldI hs.1 (.ref sa) (iI (p + 1)) 0 0 = some (iI a1) := (J.1.ld K (by omega) (by omega)).trans (congrArg some s1)
  obtain ⟨a2, i2, s2⟩ := i32 (f (p + 2).toNat)
  have d2 : ldI hs.1 (.ref sa) (iI (p + 2)) 0 0 = some (iI a2) := (J.1.ld K (by omega) (by omega)).trans (congrArg some s2)
  obtain ⟨a3, i3, s3⟩ := i32 (f (p + 3).toNat)
  have d3 : ldI hs.1 (.ref sa) (iI (p + 3)) 0 0 = some (iI a3) := (J.1.ld K (by omega) (by omega)).trans (congrArg some s3)
  obtain ⟨hs1, e1, J1, l1, z1, z2⟩ := J.wb (y := Y_X0_hasStrap) (pc := 7) (ls := [some (.ref x), some (.int (iI a1)), some (.int (iI a2)), some (.int (iI a3)), some (.ref oa), none]) (kc := kcA) (CQ.cg (hA := hA) X J.1.fr J.2.o199 (q_hasStrap X J.1.fr J.2 i1 i2 i3)) (by first | exact J.2.o199 | (unfold mvF; split <;> exact J.2.o199) | (split <;> exact J.2.o199)) (fun w h => by (repeat' split at h) <;> first | (cases h; done) | (cases h; exact bB_01)) (fun κ ax hx h hk => by
    have hs : κ = 15 ∨ κ = 17 := by
      (repeat' split at h) <;> first | (cases h; done) | (cases h; decide)
    rcases hs with rfl | rfl
    · exact (thr_to (pc' := 22) hk rfl).trans (by rw [b_X0_hasStrap_22]; rfl)
    · exact (thr_to (pc' := 26) hk rfl).trans (by rw [b_X0_hasStrap_26]; rfl)
    )
  have g1 : ldI hs1.1 (.ref sa) (iI (p + 1)) 0 0 = some (iI a1) := (J1.ld K (by omega) (by omega)).trans (congrArg some s1)
  have g2 : ldI hs1.1 (.ref sa) (iI (p + 2)) 0 0 = some (iI a2) := (J1.ld K (by omega) (by omega)).trans (congrArg some s2)
  have g3 : ldI hs1.1 (.ref sa) (iI (p + 3)) 0 0 = some (iI a3) := (J1.ld K (by omega) (by omega)).trans (congrArg some s3)
  obtain ⟨hs', fi', ar', xb, e, J', hz⟩ := J1.stXB (E5 := fun a => t_Ev (t_pg G) t_hd Y_X5_hasStrap 0 ([some (.ref a), some (.int (iI a1)), some (.int (iI a2)), some (.int (iI a3))], [], hs1)) (K := fun xa xb h => t_Ev (t_pg G) t_hd Y_L_law 1155 ([some (.ref sa), some (.ref x), some (.ref m), some (.ref oa), some (.int (iI p)), (some (.int xa)), (some (.int xb)), w7, w8], [], h)) (K9 := fun xa xb l c h => t_Ev (t_pg G) t_hd Y_L_law 1149 ([some (.ref sa), some (.ref x), some (.ref m), some (.ref oa), some (.int (iI p)), (some (.int xa)), (some (.int xb)), w7, w8], [(.long c), (.long l)], h)) (Z := fun h => rI 0 h) (J1.at (P := fun h => MM m hs1.1 hs1.2 kcA (t_Ev (t_pg G) t_hd Y_X5_hasStrap 0 ([some (.ref m), some (.int (iI a1)), some (.int (iI a2)), some (.int (iI a3))], [], h)) _ _ _) (MM.ofQ J.2 (m_hasStrap J.2 i1 i2 i3))) l1 (fun κ _ => by (first | (unfold kcA; split <;> (try split) <;> decide) | (unfold kcB; split <;> decide) | (unfold kcR; split <;> decide) | decide)) (fun w h => by (repeat' split at h) <;> first | (cases h; done) | (cases h; exact bB_01)) (fun a b l h => by rw [b_L_law_1149, lg_self, if_pos rfl])
  refine ⟨hs', fi', ar', some (.int _), some (.int xb), w7, w8, Eq.trans ?_ (e.trans (b_L_law_1155 ..)), J', by rw [hz]; exact z1, by rw [hz]; exact z2⟩
  rw [b_L_law_1071]
  simp only [iI_add, d1, d2, d3, Option.bind_some]
  rw [b_X0_hasStrap_0, J.1.kx, Option.bind_some]
  refine (congrArg (fun o => bndI o _ tX) e1).trans ?_
  rw [bI_rI]
  simp only [g1, g2, g3, Option.bind_some]
  (try rfl)
theorem lc_1158 (K : KV G hA sa len f) (J : JV G hA x m oa hs fi ar) {p : Int} (hp : 0 ≤ p ∧ p + 6 ≤ len) {w5 w6 w7 w8 : Option Value} : StL G hA sa x m oa p hs (t_Ev (t_pg G) t_hd Y_L_law 1158 ([some (.ref sa), some (.ref x), some (.ref m), some (.ref oa), some (.int (iI p)), w5, w6, w7, w8], [], hs)) := by
  obtain ⟨sv, a, ia, ow, dq, sb, ea, hd, gs, fs, X⟩ := J.1.xo
  obtain ⟨a1, i1, s1⟩ := i32 (f (p + 1).toNat)
  have d1 : ldI hs.1 (.ref sa) (iI (p + 1)) 0 0 = some (iI a1) := (J.1.ld K (by omega) (by omega)).trans (congrArg some s1)
  obtain ⟨hs1, e1, J1, l1, z1, z2⟩ := J.w (y := Y_X0_emptyInRow) (pc := 4) (ls := [some (.ref x), some (.int (iI a1)), some (.ref oa), none]) (kc := kcB) (CQ.cg (hA := hA) X J.1.fr J.2.o199 (q_emptyInRow X J.1.fr J.2 i1)) (by first | exact J.2.o199 | (unfold mvF; split <;> exact J.2.o199) | (split <;> exact J.2.o199)) (fun κ ax hx h hk => by
    have hs : κ = 17 := by
      (repeat' split at h) <;> first | (cases h; done) | (cases h; decide)
    rcases hs with rfl
    · exact (thr_to (pc' := 12) hk rfl).trans (by rw [b_X0_emptyInRow_12]; rfl)
    )
  have g1 : ldI hs1.1 (.ref sa) (iI (p + 1)) 0 0 = some (iI a1) := (J1.ld K (by omega) (by omega)).trans (congrArg some s1)
  obtain ⟨hs', fi', ar', xb, e, J', hz⟩ := J1.stX (E5 := fun a => t_Ev (t_pg G) t_hd Y_X5_emptyInRow 0 ([some (.ref a), some (.int (iI a1))], [], hs1)) (K := fun xa xb h => t_Ev (t_pg G) t_hd Y_L_law 1211 ([some (.ref sa), some (.ref x), some (.ref m), some (.ref oa), some (.int (iI p)), (some (.int xa)), (some (.int xb)), w7, w8], [], h)) (Z := fun h => rI 0 h) (J1.at (P := fun h => MM m hs1.1 hs1.2 kcB (t_Ev (t_pg G) t_hd Y_X5_emptyInRow 0 ([some (.ref m), some (.int (iI a1))], [], h)) _ _ _) (MM.ofQ J.2 (m_emptyInRow J.2 i1))) l1 (fun κ _ => by (first | (unfold kcA; split <;> (try split) <;> decide) | (unfold kcB; split <;> decide) | (unfold kcR; split <;> decide) | decide))
  refine ⟨hs', fi', ar', some (.int _), some (.int xb), w7, w8, Eq.trans ?_ (e.trans (b_L_law_1211 ..)), J', by rw [hz]; exact z1, by rw [hz]; exact z2⟩
  rw [b_L_law_1158]
  simp only [iI_add, d1, Option.bind_some]
  rw [b_X0_emptyInRow_0, J.1.kx, Option.bind_some]
  refine (congrArg (fun o => bndI o _ tX) e1).trans ?_
  rw [bI_rI]
  simp only [g1, Option.bind_some]
  (try rfl)
theorem lc_1214 (K : KV G hA sa len f) (J : JV G hA x m oa hs fi ar) {p : Int} (hp : 0 ≤ p ∧ p + 6 ≤ len) {w5 w6 w7 w8 : Option Value} : StL G hA sa x m oa p hs (t_Ev (t_pg G) t_hd Y_L_law 1214 ([some (.ref sa), some (.ref x), some (.ref m), some (.ref oa), some (.int (iI p)), w5, w6, w7, w8], [], hs)) := by
  obtain ⟨sv, a, ia, ow, dq, sb, ea, hd, gs, fs, X⟩ := J.1.xo
  obtain ⟨a1, i1, s1⟩ := i32 (f (p + 1).toNat)
  have d1 : ldI hs.1 (.ref sa) (iI (p + 1)) 0 0 = some (iI a1) := (J.1.ld K (by omega) (by omega)).trans (congrArg some s1)
  obtain ⟨hs1, e1, J1, l1, z1, z2⟩ := J.w (y := Y_X0_pieceShape) (pc := 4) (ls := [some (.ref x), some (.int (iI a1)), some (.ref oa), none]) (kc := kcB) (CQ.cg (hA := hA) X J.1.fr J.2.o199 (q_pieceShape X J.1.fr J.2 (J.1.ch K) i1)) (by first | exact J.2.o199 | (unfold mvF; split <;> exact J.2.o199) | (split <;> exact J.2.o199)) (fun κ ax hx h hk => by
    have hs : κ = 17 := by
      (try unfold pcR at h); (repeat' split at h) <;> first | (cases h; done) | (cases h; decide)
    rcases hs with rfl
    · exact (thr_to (pc' := 12) hk rfl).trans (by rw [b_X0_pieceShape_12]; rfl)
    )
  have g1 : ldI hs1.1 (.ref sa) (iI (p + 1)) 0 0 = some (iI a1) := (J1.ld K (by omega) (by omega)).trans (congrArg some s1)
  obtain ⟨hs', fi', ar', xb, e, J', hz⟩ := J1.stX (E5 := fun a => t_Ev (t_pg G) t_hd Y_X5_pieceShape 0 ([some (.ref a), some (.int (iI a1))], [], hs1)) (K := fun xa xb h => t_Ev (t_pg G) t_hd Y_L_law 1267 ([some (.ref sa), some (.ref x), some (.ref m), some (.ref oa), some (.int (iI p)), (some (.int xa)), (some (.int xb)), w7, w8], [], h)) (Z := fun h => rI 0 h) (J1.at (P := fun h => MM m hs1.1 hs1.2 kcB (t_Ev (t_pg G) t_hd Y_X5_pieceShape 0 ([some (.ref m), some (.int (iI a1))], [], h)) _ _ _) (MM.ofQ J.2 (m_pieceShape J.2 i1))) l1 (fun κ _ => by (first | (unfold kcA; split <;> (try split) <;> decide) | (unfold kcB; split <;> decide) | (unfold kcR; split <;> decide) | decide))
  refine ⟨hs', fi', ar', some (.int _), some (.int xb), w7, w8, Eq.trans ?_ (e.trans (b_L_law_1267 ..)), J', by rw [hz]; exact z1, by rw [hz]; exact z2⟩
  rw [b_L_law_1214]
  simp only [iI_add, d1, Option.bind_some]
  rw [b_X0_pieceShape_0, J.1.kx, Option.bind_some]
  refine (congrArg (fun o => bndI o _ tX) e1).trans ?_
  rw [bI_rI]
  simp only [g1, Option.bind_some]
  (try rfl)
theorem lc_1270 (K : KV G hA sa len f) (J : JV G hA x m oa hs fi ar) {p : Int} (hp : 0 ≤ p ∧ p + 6 ≤ len) {w5 w6 w7 w8 : Option Value} : StL G hA sa x m oa p hs (t_Ev (t_pg G) t_hd Y_L_law 1270 ([some (.ref sa), some (.ref x), some (.ref m), some (.ref oa), some (.int (iI p)), w5, w6, w7, w8], [], hs)) := by
  obtain ⟨sv, a, ia, ow, dq, sb, ea, hd, gs, fs, X⟩ := J.1.xo
  obtain ⟨a1, i1, s1⟩ := i32 (f (p + 1).toNat)
  have d1 : ldI hs.1 (.ref sa) (iI (p + 1)) 0 0 = some (iI a1) := (J.1.ld K (by omega) (by omega)).trans (congrArg some s1)
  obtain ⟨hs1, e1, J1, l1, z1, z2⟩ := J.w (y := Y_X0_pieceRotation) (pc := 4) (ls := [some (.ref x), some (.int (iI a1)), some (.ref oa), none]) (kc := kcB) (CQ.cg (hA := hA) X J.1.fr J.2.o199 (q_pieceRotation X J.1.fr J.2 i1)) (by first | exact J.2.o199 | (unfold mvF; split <;> exact J.2.o199) | (split <;> exact J.2.o199)) (fun κ ax hx h hk => by
    have hs : κ = 17 := by
      (try unfold pcR at h); (repeat' split at h) <;> first | (cases h; done) | (cases h; decide)
    rcases hs with rfl
    · exact (thr_to (pc' := 12) hk rfl).trans (by rw [b_X0_pieceRotation_12]; rfl)
    )
  have g1 : ldI hs1.1 (.ref sa) (iI (p + 1)) 0 0 = some (iI a1) := (J1.ld K (by omega) (by omega)).trans (congrArg some s1)
  obtain ⟨hs', fi', ar', xb, e, J', hz⟩ := J1.stX (E5 := fun a => t_Ev (t_pg G) t_hd Y_X5_pieceRotation 0 ([some (.ref a), some (.int (iI a1))], [], hs1)) (K := fun xa xb h => t_Ev (t_pg G) t_hd Y_L_law 1323 ([some (.ref sa), some (.ref x), some (.ref m), some (.ref oa), some (.int (iI p)), (some (.int xa)), (some (.int xb)), w7, w8], [], h)) (Z := fun h => rI 0 h) (J1.at (P := fun h => MM m hs1.1 hs1.2 kcB (t_Ev (t_pg G) t_hd Y_X5_pieceRotation 0 ([some (.ref m), some (.int (iI a1))], [], h)) _ _ _) (MM.ofQ J.2 (m_pieceRotation J.2 i1))) l1 (fun κ _ => by (first | (unfold kcA; split <;> (try split) <;> decide) | (unfold kcB; split <;> decide) | (unfold kcR; split <;> decide) | decide))
  refine ⟨hs', fi', ar', some (.int _), some (.int xb), w7, w8, Eq.trans ?_ (e.trans (b_L_law_1323 ..)), J', by rw [hz]; exact z1, by rw [hz]; exact z2⟩
  rw [b_L_law_1270]
  simp only [iI_add, d1, Option.bind_some]
  rw [b_X0_pieceRotation_0, J.1.kx, Option.bind_some]
  refine (congrArg (fun o => bndI o _ tX) e1).trans ?_
  rw [bI_rI]
  simp only [g1, Option.bind_some]
  (try rfl)
theorem lc_1326 (K : KV G hA sa len f) (J : JV G hA x m oa hs fi ar) {p : Int} (hp : 0 ≤ p ∧ p + 6 ≤ len) {w5 w6 w7 w8 : Option Value} : StL G hA sa x m oa p hs (t_Ev (t_pg G) t_hd Y_L_law 1326 ([some (.ref sa), some (.ref x), some (.ref m), some (.ref oa), some (.int (iI p)), w5, w6, w7, w8], [], hs)) := by
  obtain ⟨sv, a, ia, ow, dq, sb, ea, hd, gs, fs, X⟩ := J.1.xo
  obtain ⟨a1, i1, s1⟩ := i32 (f (p + 1).toNat)
  have d1 : ldI hs.1 (.ref sa) (iI (p + 1)) 0 0 = some (iI a1) := (J.1.ld K (by omega) (by omega)).trans (congrArg some s1)
  obtain ⟨hs1, e1, J1, l1, z1, z2⟩ := J.w (y := Y_X0_pieceColumn) (pc := 4) (ls := [some (.ref x), some (.int (iI a1)), some (.ref oa), none]) (kc := kcB) (CQ.cg (hA := hA) X J.1.fr J.2.o199 (q_pieceColumn X J.1.fr J.2 i1)) (by first | exact J.2.o199 | (unfold mvF; split <;> exact J.2.o199) | (split <;> exact J.2.o199)) (fun κ ax hx h hk => by
    have hs : κ = 17 := by
      (try unfold pcR at h); (repeat' split at h) <;> first | (cases h; done) | (cases h; decide)
    rcases hs with rfl
    · exact (thr_to (pc' := 12) hk rfl).trans (by rw [b_X0_pieceColumn_12]; rfl)
    )
  have g1 : ldI hs1.1 (.ref sa) (iI (p + 1)) 0 0 = some (iI a1) := (J1.ld K (by omega) (by omega)).trans (congrArg some s1)
  obtain ⟨hs', fi', ar', xb, e, J', hz⟩ := J1.stX (E5 := fun a => t_Ev (t_pg G) t_hd Y_X5_pieceColumn 0 ([some (.ref a), some (.int (iI a1))], [], hs1)) (K := fun xa xb h => t_Ev (t_pg G) t_hd Y_L_law 1379 ([some (.ref sa), some (.ref x), some (.ref m), some (.ref oa), some (.int (iI p)), (some (.int xa)), (some (.int xb)), w7, w8], [], h)) (Z := fun h => rI 0 h) (J1.at (P := fun h => MM m hs1.1 hs1.2 kcB (t_Ev (t_pg G) t_hd Y_X5_pieceColumn 0 ([some (.ref m), some (.int (iI a1))], [], h)) _ _ _) (MM.ofQ J.2 (m_pieceColumn J.2 i1))) l1 (fun κ _ => by (first | (unfold kcA; split <;> (try split) <;> decide) | (unfold kcB; split <;> decide) | (unfold kcR; split <;> decide) | decide))
  refine ⟨hs', fi', ar', some (.int _), some (.int xb), w7, w8, Eq.trans ?_ (e.trans (b_L_law_1379 ..)), J', by rw [hz]; exact z1, by rw [hz]; exact z2⟩
  rw [b_L_law_1326]
  simp only [iI_add, d1, Option.bind_some]
  rw [b_X0_pieceColumn_0, J.1.kx, Option.bind_some]
  refine (congrArg (fun o => bndI o _ tX) e1).trans ?_
  rw [bI_rI]
  simp only [g1, Option.bind_some]
  (try rfl)
theorem lc_1382 (K : KV G hA sa len f) (J : JV G hA x m oa hs fi ar) {p : Int} (hp : 0 ≤ p ∧ p + 6 ≤ len) {w5 w6 w7 w8 : Option Value} : StL G hA sa x m oa p hs (t_Ev (t_pg G) t_hd Y_L_law 1382 ([some (.ref sa), some (.ref x), some (.ref m), some (.ref oa), some (.int (iI p)), w5, w6, w7, w8], [], hs)) := by
  obtain ⟨sv, a, ia, ow, dq, sb, ea, hd, gs, fs, X⟩ := J.1.xo
  obtain ⟨a1, i1, s1⟩ := i32 (f (p + 1).toNat)
  have d1 : ldI hs.1 (.ref sa) (iI (p + 1)) 0 0 = some (iI a1) := (J.1.ld K (by omega) (by omega)).trans (congrArg some s1)
  obtain ⟨hs1, e1, J1, l1, z1, z2⟩ := J.w (y := Y_X0_pieceRow) (pc := 4) (ls := [some (.ref x), some (.int (iI a1)), some (.ref oa), none]) (kc := kcB) (CQ.cg (hA := hA) X J.1.fr J.2.o199 (q_pieceRow X J.1.fr J.2 i1)) (by first | exact J.2.o199 | (unfold mvF; split <;> exact J.2.o199) | (split <;> exact J.2.o199)) (fun κ ax hx h hk => by
    have hs : κ = 17 := by
      (try unfold pcR at h); (repeat' split at h) <;> first | (cases h; done) | (cases h; decide)
    rcases hs with rfl
    · exact (thr_to (pc' := 12) hk rfl).trans (by rw [b_X0_pieceRow_12]; rfl)
    )
  have g1 : ldI hs1.1 (.ref sa) (iI (p + 1)) 0 0 = some (iI a1) := (J1.ld K (by omega) (by omega)).trans (congrArg some s1)
  obtain ⟨hs', fi', ar', xb, e, J', hz⟩ := J1.stX (E5 := fun a => t_Ev (t_pg G) t_hd Y_X5_pieceRow 0 ([some (.ref a), some (.int (iI a1))], [], hs1)) (K := fun xa xb h => t_Ev (t_pg G) t_hd Y_L_law 1435 ([some (.ref sa), some (.ref x), some (.ref m), some (.ref oa), some (.int (iI p)), (some (.int xa)), (some (.int xb)), w7, w8], [], h)) (Z := fun h => rI 0 h) (J1.at (P := fun h => MM m hs1.1 hs1.2 kcB (t_Ev (t_pg G) t_hd Y_X5_pieceRow 0 ([some (.ref m), some (.int (iI a1))], [], h)) _ _ _) (MM.ofQ J.2 (m_pieceRow J.2 i1))) l1 (fun κ _ => by (first | (unfold kcA; split <;> (try split) <;> decide) | (unfold kcB; split <;> decide) | (unfold kcR; split <;> decide) | decide))
  refine ⟨hs', fi', ar', some (.int _), some (.int xb), w7, w8, Eq.trans ?_ (e.trans (b_L_law_1435 ..)), J', by rw [hz]; exact z1, by rw [hz]; exact z2⟩
  rw [b_L_law_1382]
  simp only [iI_add, d1, Option.bind_some]
  rw [b_X0_pieceRow_0, J.1.kx, Option.bind_some]
  refine (congrArg (fun o => bndI o _ tX) e1).trans ?_
  rw [bI_rI]
  simp only [g1, Option.bind_some]
  (try rfl)
theorem lc_1438 (K : KV G hA sa len f) (J : JV G hA x m oa hs fi ar) {p : Int} (hp : 0 ≤ p ∧ p + 6 ≤ len) {w5 w6 w7 w8 : Option Value} : StL G hA sa x m oa p hs (t_Ev (t_pg G) t_hd Y_L_law 1438 ([some (.ref sa), some (.ref x), some (.ref m), some (.ref oa), some (.int (iI p)), w5, w6, w7, w8], [], hs)) := by
  obtain ⟨sv, a, ia, ow, dq, sb, ea, hd, gs, fs, X⟩ := J.1.xo
  obtain ⟨a1, i1, s1⟩ := i32 (f (p + 1).toNat)
  have d1 : ldI hs.1 (.ref sa) (iI (p + 1)) 0 0 = some (iI a1) := (J.1.ld K (by omega) (by omega)).trans (congrArg some s1)
  obtain ⟨hs1, e1, J1, l1, z1, z2⟩ := J.w (y := Y_X0_pieceOwner) (pc := 4) (ls := [some (.ref x), some (.int (iI a1)), some (.ref oa), none]) (kc := kcB) (CQ.cg (hA := hA) X J.1.fr J.2.o199 (q_pieceOwner X J.1.fr J.2 i1)) (by first | exact J.2.o199 | (unfold mvF; split <;> exact J.2.o199) | (split <;> exact J.2.o199)) (fun κ ax hx h hk => by
    have hs : κ = 17 := by
      (try unfold pcR at h); (repeat' split at h) <;> first | (cases h; done) | (cases h; decide)
    rcases hs with rfl
    · exact (thr_to (pc' := 12) hk rfl).trans (by rw [b_X0_pieceOwner_12]; rfl)
    )
  have g1 : ldI hs1.1 (.ref sa) (iI (p + 1)) 0 0 = some (iI a1) := (J1.ld K (by omega) (by omega)).trans (congrArg some s1)
  obtain ⟨hs', fi', ar', xb, e, J', hz⟩ := J1.stX (E5 := fun a => t_Ev (t_pg G) t_hd Y_X5_pieceOwner 0 ([some (.ref a), some (.int (iI a1))], [], hs1)) (K := fun xa xb h => t_Ev (t_pg G) t_hd Y_L_law 1491 ([some (.ref sa), some (.ref x), some (.ref m), some (.ref oa), some (.int (iI p)), (some (.int xa)), (some (.int xb)), w7, w8], [], h)) (Z := fun h => rI 0 h) (J1.at (P := fun h => MM m hs1.1 hs1.2 kcB (t_Ev (t_pg G) t_hd Y_X5_pieceOwner 0 ([some (.ref m), some (.int (iI a1))], [], h)) _ _ _) (MM.ofQ J.2 (m_pieceOwner J.2 i1))) l1 (fun κ _ => by (first | (unfold kcA; split <;> (try split) <;> decide) | (unfold kcB; split <;> decide) | (unfold kcR; split <;> decide) | decide))
  refine ⟨hs', fi', ar', some (.int _), some (.int xb), w7, w8, Eq.trans ?_ (e.trans (b_L_law_1491 ..)), J', by rw [hz]; exact z1, by rw [hz]; exact z2⟩
  rw [b_L_law_1438]
  simp only [iI_add, d1, Option.bind_some]
  rw [b_X0_pieceOwner_0, J.1.kx, Option.bind_some]
  refine (congrArg (fun o => bndI o _ tX) e1).trans ?_
  rw [bI_rI]
  simp only [g1, Option.bind_some]
  (try rfl)
theorem lc_1494 (K : KV G hA sa len f) (J : JV G hA x m oa hs fi ar) {p : Int} (hp : 0 ≤ p ∧ p + 6 ≤ len) {w5 w6 w7 w8 : Option Value} : StL G hA sa x m oa p hs (t_Ev (t_pg G) t_hd Y_L_law 1494 ([some (.ref sa), some (.ref x), some (.ref m), some (.ref oa), some (.int (iI p)), w5, w6, w7, w8], [], hs)) := by
  obtain ⟨sv, a, ia, ow, dq, sb, ea, hd, gs, fs, X⟩ := J.1.xo
  obtain ⟨a1, i1, s1⟩ := i32 (f (p + 1).toNat)
  have d1 : ldI hs.1 (.ref sa) (iI (p + 1)) 0 0 = some (iI a1) := (J.1.ld K (by omega) (by omega)).trans (congrArg some s1)
  obtain ⟨hs1, e1, J1, l1, z1, z2⟩ := J.w (y := Y_X0_piecePoints) (pc := 4) (ls := [some (.ref x), some (.int (iI a1)), some (.ref oa), none]) (kc := kcB) (CQ.cg (hA := hA) X J.1.fr J.2.o199 (q_piecePoints X J.1.fr J.2 i1)) (by first | exact J.2.o199 | (unfold mvF; split <;> exact J.2.o199) | (split <;> exact J.2.o199)) (fun κ ax hx h hk => by
    have hs : κ = 17 := by
      (try unfold pcR at h); (repeat' split at h) <;> first | (cases h; done) | (cases h; decide)
    rcases hs with rfl
    · exact (thr_to (pc' := 12) hk rfl).trans (by rw [b_X0_piecePoints_12]; rfl)
    )
  have g1 : ldI hs1.1 (.ref sa) (iI (p + 1)) 0 0 = some (iI a1) := (J1.ld K (by omega) (by omega)).trans (congrArg some s1)
  obtain ⟨hs', fi', ar', xb, e, J', hz⟩ := J1.stX (E5 := fun a => t_Ev (t_pg G) t_hd Y_X5_piecePoints 0 ([some (.ref a), some (.int (iI a1))], [], hs1)) (K := fun xa xb h => t_Ev (t_pg G) t_hd Y_L_law 1547 ([some (.ref sa), some (.ref x), some (.ref m), some (.ref oa), some (.int (iI p)), (some (.int xa)), (some (.int xb)), w7, w8], [], h)) (Z := fun h => rI 0 h) (J1.at (P := fun h => MM m hs1.1 hs1.2 kcB (t_Ev (t_pg G) t_hd Y_X5_piecePoints 0 ([some (.ref m), some (.int (iI a1))], [], h)) _ _ _) (MM.ofQ J.2 (m_piecePoints J.2 i1))) l1 (fun κ _ => by (first | (unfold kcA; split <;> (try split) <;> decide) | (unfold kcB; split <;> decide) | (unfold kcR; split <;> decide) | decide))
  refine ⟨hs', fi', ar', some (.int _), some (.int xb), w7, w8, Eq.trans ?_ (e.trans (b_L_law_1547 ..)), J', by rw [hz]; exact z1, by rw [hz]; exact z2⟩
  rw [b_L_law_1494]
  simp only [iI_add, d1, Option.bind_some]
  rw [b_X0_piecePoints_0, J.1.kx, Option.bind_some]
  refine (congrArg (fun o => bndI o _ tX) e1).trans ?_
  rw [bI_rI]
  simp only [g1, Option.bind_some]
  (try rfl)
theorem lc_1589 (K : KV G hA sa len f) (J : JV G hA x m oa hs fi ar) {p : Int} (hp : 0 ≤ p ∧ p + 6 ≤ len) {w5 w6 w7 w8 : Option Value} : StL G hA sa x m oa p hs (t_Ev (t_pg G) t_hd Y_L_law 1589 ([some (.ref sa), some (.ref x), some (.ref m), some (.ref oa), some (.int (iI p)), w5, w6, w7, w8], [], hs)) := by
  obtain ⟨sv, a, ia, ow, dq, sb, ea, hd, gs, fs, X⟩ := J.1.xo
  obtain ⟨a1, i1, s1⟩ := i32 (f (p + 1).toNat)
  have d1 : ldI hs.1 (.ref sa) (iI (p + 1)) 0 0 = some (iI a1) := (J.1.ld K (by omega) (by omega)).trans (congrArg some s1)
  obtain ⟨hs1, e1, J1, l1, z1, z2⟩ := J.w (y := Y_X0_score) (pc := 4) (ls := [some (.ref x), some (.int (iI a1)), some (.ref oa), none]) (kc := kcB) (CQ.cg (hA := hA) X J.1.fr J.2.o199 (q_score X J.1.fr i1)) (by first | exact J.2.o199 | (unfold mvF; split <;> exact J.2.o199) | (split <;> exact J.2.o199)) (fun κ ax hx h hk => by
    have hs : κ = 17 := by
      (try unfold pyR at h); (repeat' split at h) <;> first | (cases h; done) | (cases h; decide)
    rcases hs with rfl
    · exact (thr_to (pc' := 12) hk rfl).trans (by rw [b_X0_score_12]; rfl)
    )
  have g1 : ldI hs1.1 (.ref sa) (iI (p + 1)) 0 0 = some (iI a1) := (J1.ld K (by omega) (by omega)).trans (congrArg some s1)
  obtain ⟨hs', fi', ar', xb, e, J', hz⟩ := J1.stX (E5 := fun a => t_Ev (t_pg G) t_hd Y_X5_score 0 ([some (.ref a), some (.int (iI a1))], [], hs1)) (K := fun xa xb h => t_Ev (t_pg G) t_hd Y_L_law 1642 ([some (.ref sa), some (.ref x), some (.ref m), some (.ref oa), some (.int (iI p)), (some (.int xa)), (some (.int xb)), w7, w8], [], h)) (Z := fun h => rI 0 h) (J1.at (P := fun h => MM m hs1.1 hs1.2 kcB (t_Ev (t_pg G) t_hd Y_X5_score 0 ([some (.ref m), some (.int (iI a1))], [], h)) _ _ _) (MM.ofQ J.2 (m_score i1))) l1 (fun κ _ => by (first | (unfold kcA; split <;> (try split) <;> decide) | (unfold kcB; split <;> decide) | (unfold kcR; split <;> decide) | decide))
  refine ⟨hs', fi', ar', some (.int _), some (.int xb), w7, w8, Eq.trans ?_ (e.trans (b_L_law_1642 ..)), J', by rw [hz]; exact z1, by rw [hz]; exact z2⟩
  rw [b_L_law_1589]
  simp only [iI_add, d1, Option.bind_some]
  rw [b_X0_score_0, J.1.kx, Option.bind_some]
  refine (congrArg (fun o => bndI o _ tX) e1).trans ?_
  rw [bI_rI]
  simp only [g1, Option.bind_some]
  (try rfl)
theorem lc_1645 (K : KV G hA sa len f) (J : JV G hA x m oa hs fi ar) {p : Int} (hp : 0 ≤ p ∧ p + 6 ≤ len) {w5 w6 w7 w8 : Option Value} : StL G hA sa x m oa p hs (t_Ev (t_pg G) t_hd Y_L_law 1645 ([some (.ref sa), some (.ref x), some (.ref m), some (.ref oa), some (.int (iI p)), w5, w6, w7, w8], [], hs)) := by
  obtain ⟨sv, a, ia, ow, dq, sb, ea, hd, gs, fs, X⟩ := J.1.xo
  obtain ⟨a1, i1, s1⟩ := i32 (f (p + 1).toNat)
  have d1 : ldI hs.1 (.ref sa) (iI (p + 1)) 0 0 = some (iI a1) := (J.1.ld K (by omega) (by omega)).trans (congrArg some s1)
  obtain ⟨a2, i2, s2⟩ := i32 (f (p + 2).toNat)
  have d2 : ldI hs.1 (.ref sa) (iI (p + 2)) 0 0 = some (iI a2) := (J.1.ld K (by omega) (by omega)).trans (congrArg some s2)
  obtain ⟨hs1, e1, J1, l1, z1, z2⟩ := J.w (y := Y_X0_supply) (pc := 5) (ls := [some (.ref x), some (.int (iI a1)), some (.int (iI a2)), some (.ref oa), none]) (kc := kcB) (CQ.cg (hA := hA) X J.1.fr J.2.o199 (q_supply X J.1.fr i1 i2)) (by first | exact J.2.o199 | (unfold mvF; split <;> exact J.2.o199) | (split <;> exact J.2.o199)) (fun κ ax hx h hk => by
    have hs : κ = 17 ∨ κ = 15 := by
      (try unfold pyR at h); (repeat' split at h) <;> first | (cases h; done) | (cases h; decide)
    rcases hs with rfl | rfl
    · exact (thr_to (pc' := 13) hk rfl).trans (by rw [b_X0_supply_13]; rfl)
    · exact (thr_to (pc' := 17) hk rfl).trans (by rw [b_X0_supply_17]; rfl)
    )
  have g1 : ldI hs1.1 (.ref sa) (iI (p + 1)) 0 0 = some (iI a1) := (J1.ld K (by omega) (by omega)).trans (congrArg some s1)
  have g2 : ldI hs1.1 (.ref sa) (iI (p + 2)) 0 0 = some (iI a2) := (J1.ld K (by omega) (by omega)).trans (congrArg some s2)
  obtain ⟨hs', fi', ar', xb, e, J', hz⟩ := J1.stX (E5 := fun a => t_Ev (t_pg G) t_hd Y_X5_supply 0 ([some (.ref a), some (.int (iI a1)), some (.int (iI a2))], [], hs1)) (K := fun xa xb h => t_Ev (t_pg G) t_hd Y_L_law 1710 ([some (.ref sa), some (.ref x), some (.ref m), some (.ref oa), some (.int (iI p)), (some (.int xa)), (some (.int xb)), w7, w8], [], h)) (Z := fun h => rI 0 h) (J1.at (P := fun h => MM m hs1.1 hs1.2 kcB (t_Ev (t_pg G) t_hd Y_X5_supply 0 ([some (.ref m), some (.int (iI a1)), some (.int (iI a2))], [], h)) _ _ _) (MM.ofQ J.2 (m_supply i1 i2))) l1 (fun κ _ => by (first | (unfold kcA; split <;> (try split) <;> decide) | (unfold kcB; split <;> decide) | (unfold kcR; split <;> decide) | decide))
  refine ⟨hs', fi', ar', some (.int _), some (.int xb), w7, w8, Eq.trans ?_ (e.trans (b_L_law_1710 ..)), J', by rw [hz]; exact z1, by rw [hz]; exact z2⟩
  rw [b_L_law_1645]
  simp only [iI_add, d1, d2, Option.bind_some]
  rw [b_X0_supply_0, J.1.kx, Option.bind_some]
  refine (congrArg (fun o => bndI o _ tX) e1).trans ?_
  rw [bI_rI]
  simp only [g1, g2, Option.bind_some]
  (try rfl)
theorem lc_1713 (K : KV G hA sa len f) (J : JV G hA x m oa hs fi ar) {p : Int} (hp : 0 ≤ p ∧ p + 6 ≤ len) {w5 w6 w7 w8 : Option Value} : StL G hA sa x m oa p hs (t_Ev (t_pg G) t_hd Y_L_law 1713 ([some (.ref sa), some (.ref x), some (.ref m), some (.ref oa), some (.int (iI p)), w5, w6, w7, w8], [], hs)) := by
  obtain ⟨sv, a, ia, ow, dq, sb, ea, hd, gs, fs, X⟩ := J.1.xo
  obtain ⟨a1, i1, s1⟩ := i32 (f (p + 1).toNat)
  have d1 : ldI hs.1 (.ref sa) (iI (p + 1)) 0 0 = some (iI a1) := (J.1.ld K (by omega) (by omega)).trans (congrArg some s1)
  obtain ⟨hs1, e1, J1, l1, z1, z2⟩ := J.w (y := Y_X0_strapsLeft) (pc := 4) (ls := [some (.ref x), some (.int (iI a1)), some (.ref oa), none]) (kc := kcB) (CQ.cg (hA := hA) X J.1.fr J.2.o199 (q_strapsLeft X J.1.fr i1)) (by first | exact J.2.o199 | (unfold mvF; split <;> exact J.2.o199) | (split <;> exact J.2.o199)) (fun κ ax hx h hk => by
    have hs : κ = 17 := by
      (try unfold pyR at h); (repeat' split at h) <;> first | (cases h; done) | (cases h; decide)
    rcases hs with rfl
    · exact (thr_to (pc' := 12) hk rfl).trans (by rw [b_X0_strapsLeft_12]; rfl)
    )
  have g1 : ldI hs1.1 (.ref sa) (iI (p + 1)) 0 0 = some (iI a1) := (J1.ld K (by omega) (by omega)).trans (congrArg some s1)
  obtain ⟨hs', fi', ar', xb, e, J', hz⟩ := J1.stX (E5 := fun a => t_Ev (t_pg G) t_hd Y_X5_strapsLeft 0 ([some (.ref a), some (.int (iI a1))], [], hs1)) (K := fun xa xb h => t_Ev (t_pg G) t_hd Y_L_law 1766 ([some (.ref sa), some (.ref x), some (.ref m), some (.ref oa), some (.int (iI p)), (some (.int xa)), (some (.int xb)), w7, w8], [], h)) (Z := fun h => rI 0 h) (J1.at (P := fun h => MM m hs1.1 hs1.2 kcB (t_Ev (t_pg G) t_hd Y_X5_strapsLeft 0 ([some (.ref m), some (.int (iI a1))], [], h)) _ _ _) (MM.ofQ J.2 (m_strapsLeft i1))) l1 (fun κ _ => by (first | (unfold kcA; split <;> (try split) <;> decide) | (unfold kcB; split <;> decide) | (unfold kcR; split <;> decide) | decide))
  refine ⟨hs', fi', ar', some (.int _), some (.int xb), w7, w8, Eq.trans ?_ (e.trans (b_L_law_1766 ..)), J', by rw [hz]; exact z1, by rw [hz]; exact z2⟩
  rw [b_L_law_1713]
  simp only [iI_add, d1, Option.bind_some]
  rw [b_X0_strapsLeft_0, J.1.kx, Option.bind_some]
  refine (congrArg (fun o => bndI o _ tX) e1).trans ?_
  rw [bI_rI]
  simp only [g1, Option.bind_some]
  (try rfl)
theorem lc_1769 (K : KV G hA sa len f) (J : JV G hA x m oa hs fi ar) {p : Int} (hp : 0 ≤ p ∧ p + 6 ≤ len) {w5 w6 w7 w8 : Option Value} : StL G hA sa x m oa p hs (t_Ev (t_pg G) t_hd Y_L_law 1769 ([some (.ref sa), some (.ref x), some (.ref m), some (.ref oa), some (.int (iI p)), w5, w6, w7, w8], [], hs)) := by
  obtain ⟨sv, a, ia, ow, dq, sb, ea, hd, gs, fs, X⟩ := J.1.xo
  obtain ⟨a1, i1, s1⟩ := i32 (f (p + 1).toNat)
  have d1 : ldI hs.1 (.ref sa) (iI (p + 1)) 0 0 = some (iI a1) := (J.1.ld K (by omega) (by omega)).trans (congrArg some s1)
  obtain ⟨a2, i2, s2⟩ := i32 (f (p + 2).toNat)
  have d2 : ldI hs.1 (.ref sa) (iI (p + 2)) 0 0 = some (iI a2) := (J.1.ld K (by omega) (by omega)).trans (congrArg some s2)
  obtain ⟨hs1, e1, J1, l1, z1, z2⟩ := J.w (y := Y_X0_nameByte) (pc := 5) (ls := [some (.ref x), some (.int (iI a1)), some (.int (iI a2)), some (.ref oa), none]) (kc := kcB) (CQ.cg (hA := hA) X J.1.fr J.2.o199 (q_nameByte X J.1.fr J.2 i1 i2)) (by first | exact J.2.o199 | (unfold mvF; split <;> exact J.2.o199) | (split <;> exact J.2.o199)) (fun κ ax hx h hk => by
    have hs : κ = 17 := by
      (try unfold pyR at h); (repeat' split at h) <;> first | (cases h; done) | (cases h; decide)
    rcases hs with rfl
    · exact (thr_to (pc' := 13) hk rfl).trans (by rw [b_X0_nameByte_13]; rfl)
    )
  have g1 : ldI hs1.1 (.ref sa) (iI (p + 1)) 0 0 = some (iI a1) := (J1.ld K (by omega) (by omega)).trans (congrArg some s1)
  have g2 : ldI hs1.1 (.ref sa) (iI (p + 2)) 0 0 = some (iI a2) := (J1.ld K (by omega) (by omega)).trans (congrArg some s2)
  obtain ⟨hs', fi', ar', xb, e, J', hz⟩ := J1.stX (E5 := fun a => t_Ev (t_pg G) t_hd Y_X5_nameByte 0 ([some (.ref a), some (.int (iI a1)), some (.int (iI a2))], [], hs1)) (K := fun xa xb h => t_Ev (t_pg G) t_hd Y_L_law 1834 ([some (.ref sa), some (.ref x), some (.ref m), some (.ref oa), some (.int (iI p)), (some (.int xa)), (some (.int xb)), w7, w8], [], h)) (Z := fun h => rI 0 h) (J1.at (P := fun h => MM m hs1.1 hs1.2 kcB (t_Ev (t_pg G) t_hd Y_X5_nameByte 0 ([some (.ref m), some (.int (iI a1)), some (.int (iI a2))], [], h)) _ _ _) (MM.ofQ J.2 (m_nameByte J.2 i1 i2))) l1 (fun κ _ => by (first | (unfold kcA; split <;> (try split) <;> decide) | (unfold kcB; split <;> decide) | (unfold kcR; split <;> decide) | decide))
  refine ⟨hs', fi', ar', some (.int _), some (.int xb), w7, w8, Eq.trans ?_ (e.trans (b_L_law_1834 ..)), J', by rw [hz]; exact z1, by rw [hz]; exact z2⟩
  rw [b_L_law_1769]
  simp only [iI_add, d1, d2, Option.bind_some]
  rw [b_X0_nameByte_0, J.1.kx, Option.bind_some]
  refine (congrArg (fun o => bndI o _ tX) e1).trans ?_
  rw [bI_rI]
  simp only [g1, g2, Option.bind_some]
  (try rfl)
theorem lc_1837 (K : KV G hA sa len f) (J : JV G hA x m oa hs fi ar) {p : Int} (hp : 0 ≤ p ∧ p + 6 ≤ len) {w5 w6 w7 w8 : Option Value} : StL G hA sa x m oa p hs (t_Ev (t_pg G) t_hd Y_L_law 1837 ([some (.ref sa), some (.ref x), some (.ref m), some (.ref oa), some (.int (iI p)), w5, w6, w7, w8], [], hs)) := by
  obtain ⟨sv, a, ia, ow, dq, sb, ea, hd, gs, fs, X⟩ := J.1.xo
  obtain ⟨a1, i1, s1⟩ := i32 (f (p + 1).toNat)
  have d1 : ldI hs.1 (.ref sa) (iI (p + 1)) 0 0 = some (iI a1) := (J.1.ld K (by omega) (by omega)).trans (congrArg some s1)
  obtain ⟨a2, i2, s2⟩ := i32 (f (p + 2).toNat)
  have d2 : ldI hs.1 (.ref sa) (iI (p + 2)) 0 0 = some (iI a2) := (J.1.ld K (by omega) (by omega)).trans (congrArg some s2)
  obtain ⟨a3, i3, s3⟩ := i32 (f (p + 3).toNat)
  have d3 : ldI hs.1 (.ref sa) (iI (p + 3)) 0 0 = some (iI a3) := (J.1.ld K (by omega) (by omega)).trans (congrArg some s3)
  obtain ⟨a4, i4, s4⟩ := i32 (f (p + 4).toNat)
  have d4 : ldI hs.1 (.ref sa) (iI (p + 4)) 0 0 = some (iI a4) := (J.1.ld K (by omega) (by omega)).trans (congrArg some s4)
  obtain ⟨hs1, e1, J1, l1, z1, z2⟩ := J.wb (y := Y_X0_fits) (pc := 9) (ls := [some (.ref x), some (.int (iI a1)), some (.int (iI a2)), some (.int (iI a3)), some (.int (iI a4)), some (.ref oa), none]) (kc := kcA) (CQ.cg (hA := hA) X J.1.fr J.2.o199 (q_fits X J.1.fr J.2 (J.1.ch K) i1 i2 i3 i4)) (by first | exact J.2.o199 | (unfold mvF; split <;> exact J.2.o199) | (split <;> exact J.2.o199)) (fun w h => by (try unfold plR at h); (repeat' split at h) <;> first | (cases h; done) | (cases h; exact bB_01)) (fun κ ax hx h hk => by
    have hs : κ = 15 ∨ κ = 17 := by
      (try unfold plR at h); (repeat' split at h) <;> first | (cases h; done) | (cases h; decide)
    rcases hs with rfl | rfl
    · exact (thr_to (pc' := 24) hk rfl).trans (by rw [b_X0_fits_24]; rfl)
    · exact (thr_to (pc' := 28) hk rfl).trans (by rw [b_X0_fits_28]; rfl)
    )
  have g1 : ldI hs1.1 (.ref sa) (iI (p + 1)) 0 0 = some (iI a1) := (J1.ld K (by omega) (by omega)).trans (congrArg some s1)
  have g2 : ldI hs1.1 (.ref sa) (iI (p + 2)) 0 0 = some (iI a2) := (J1.ld K (by omega) (by omega)).trans (congrArg some s2)
  have g3 : ldI hs1.1 (.ref sa) (iI (p + 3)) 0 0 = some (iI a3) := (J1.ld K (by omega) (by omega)).trans (congrArg some s3)
  have g4 : ldI hs1.1 (.ref sa) (iI (p + 4)) 0 0 = some (iI a4) := (J1.ld K (by omega) (by omega)).trans (congrArg some s4)
  obtain ⟨hs', fi', ar', xb, e, J', hz⟩ := J1.stXB (E5 := fun a => t_Ev (t_pg G) t_hd Y_X5_fits 0 ([some (.ref a), some (.int (iI a1)), some (.int (iI a2)), some (.int (iI a3)), some (.int (iI a4))], [], hs1)) (K := fun xa xb h => t_Ev (t_pg G) t_hd Y_L_law 1933 ([some (.ref sa), some (.ref x), some (.ref m), some (.ref oa), some (.int (iI p)), (some (.int xa)), (some (.int xb)), w7, w8], [], h)) (K9 := fun xa xb l c h => t_Ev (t_pg G) t_hd Y_L_law 1927 ([some (.ref sa), some (.ref x), some (.ref m), some (.ref oa), some (.int (iI p)), (some (.int xa)), (some (.int xb)), w7, w8], [(.long c), (.long l)], h)) (Z := fun h => rI 0 h) (J1.at (P := fun h => MM m hs1.1 hs1.2 kcA (t_Ev (t_pg G) t_hd Y_X5_fits 0 ([some (.ref m), some (.int (iI a1)), some (.int (iI a2)), some (.int (iI a3)), some (.int (iI a4))], [], h)) _ _ _) (MM.ofQ J.2 (m_fits J.2 i1 i2 i3 i4))) l1 (fun κ _ => by (first | (unfold kcA; split <;> (try split) <;> decide) | (unfold kcB; split <;> decide) | (unfold kcR; split <;> decide) | decide)) (fun w h => by (try unfold plR at h); (repeat' split at h) <;> first | (cases h; done) | (cases h; exact bB_01)) (fun a b l h => by rw [b_L_law_1927, lg_self, if_pos rfl])
  refine ⟨hs', fi', ar', some (.int _), some (.int xb), w7, w8, Eq.trans ?_ (e.trans (b_L_law_1933 ..)), J', by rw [hz]; exact z1, by rw [hz]; exact z2⟩
  rw [b_L_law_1837]
  simp only [iI_add, d1, d2, d3, d4, Option.bind_some]
  rw [b_X0_fits_0, J.1.kx, Option.bind_some]
  refine (congrArg (fun o => bndI o _ tX) e1).trans ?_
  rw [bI_rI]
  simp only [g1, g2, g3, g4, Option.bind_some]
  (try rfl)
theorem lc_1936 (K : KV G hA sa len f) (J : JV G hA x m oa hs fi ar) {p : Int} (hp : 0 ≤ p ∧ p + 6 ≤ len) {w5 w6 w7 w8 : Option Value} : StL G hA sa x m oa p hs (t_Ev (t_pg G) t_hd Y_L_law 1936 ([some (.ref sa), some (.ref x), some (.ref m), some (.ref oa), some (.int (iI p)), w5, w6, w7, w8], [], hs)) := by
  obtain ⟨sv, a, ia, ow, dq, sb, ea, hd, gs, fs, X⟩ := J.1.xo
  obtain ⟨a1, i1, s1⟩ := i32 (f (p + 1).toNat)
  have d1 : ldI hs.1 (.ref sa) (iI (p + 1)) 0 0 = some (iI a1) := (J.1.ld K (by omega) (by omega)).trans (congrArg some s1)
  obtain ⟨a2, i2, s2⟩ := i32 (f (p + 2).toNat)
  have d2 : ldI hs.1 (.ref sa) (iI (p + 2)) 0 0 = some (iI a2) := (J.1.ld K (by omega) (by omega)).trans (congrArg some s2)
  obtain ⟨a3, i3, s3⟩ := i32 (f (p + 3).toNat)
  have d3 : ldI hs.1 (.ref sa) (iI (p + 3)) 0 0 = some (iI a3) := (J.1.ld K (by omega) (by omega)).trans (congrArg some s3)
  obtain ⟨a4, i4, s4⟩ := i32 (f (p + 4).toNat)
  have d4 : ldI hs.1 (.ref sa) (iI (p + 4)) 0 0 = some (iI a4) := (J.1.ld K (by omega) (by omega)).trans (congrArg some s4)
  obtain ⟨hs1, e1, J1, l1, z1, z2⟩ := J.w (y := Y_X0_misfitReason) (pc := 9) (ls := [some (.ref x), some (.int (iI a1)), some (.int (iI a2)), some (.int (iI a3)), some (.int (iI a4)), some (.ref oa), none]) (kc := kcA) (CQ.cg (hA := hA) X J.1.fr J.2.o199 (q_misfitReason X J.1.fr J.2 (J.1.ch K) i1 i2 i3 i4)) (by first | exact J.2.o199 | (unfold mvF; split <;> exact J.2.o199) | (split <;> exact J.2.o199)) (fun κ ax hx h hk => by
    have hs : κ = 15 ∨ κ = 17 := by
      (try unfold plR at h); (repeat' split at h) <;> first | (cases h; done) | (cases h; decide)
    rcases hs with rfl | rfl
    · exact (thr_to (pc' := 17) hk rfl).trans (by rw [b_X0_misfitReason_17]; rfl)
    · exact (thr_to (pc' := 21) hk rfl).trans (by rw [b_X0_misfitReason_21]; rfl)
    )
  have g1 : ldI hs1.1 (.ref sa) (iI (p + 1)) 0 0 = some (iI a1) := (J1.ld K (by omega) (by omega)).trans (congrArg some s1)
  have g2 : ldI hs1.1 (.ref sa) (iI (p + 2)) 0 0 = some (iI a2) := (J1.ld K (by omega) (by omega)).trans (congrArg some s2)
  have g3 : ldI hs1.1 (.ref sa) (iI (p + 3)) 0 0 = some (iI a3) := (J1.ld K (by omega) (by omega)).trans (congrArg some s3)
  have g4 : ldI hs1.1 (.ref sa) (iI (p + 4)) 0 0 = some (iI a4) := (J1.ld K (by omega) (by omega)).trans (congrArg some s4)
  obtain ⟨hs', fi', ar', xb, e, J', hz⟩ := J1.stX (E5 := fun a => t_Ev (t_pg G) t_hd Y_X5_misfitReason 0 ([some (.ref a), some (.int (iI a1)), some (.int (iI a2)), some (.int (iI a3)), some (.int (iI a4))], [], hs1)) (K := fun xa xb h => t_Ev (t_pg G) t_hd Y_L_law 2025 ([some (.ref sa), some (.ref x), some (.ref m), some (.ref oa), some (.int (iI p)), (some (.int xa)), (some (.int xb)), w7, w8], [], h)) (Z := fun h => rI 0 h) (J1.at (P := fun h => MM m hs1.1 hs1.2 kcA (t_Ev (t_pg G) t_hd Y_X5_misfitReason 0 ([some (.ref m), some (.int (iI a1)), some (.int (iI a2)), some (.int (iI a3)), some (.int (iI a4))], [], h)) _ _ _) (MM.ofQ J.2 (m_misfitReason J.2 i1 i2 i3 i4))) l1 (fun κ _ => by (first | (unfold kcA; split <;> (try split) <;> decide) | (unfold kcB; split <;> decide) | (unfold kcR; split <;> decide) | decide))
  refine ⟨hs', fi', ar', some (.int _), some (.int xb), w7, w8, Eq.trans ?_ (e.trans (b_L_law_2025 ..)), J', by rw [hz]; exact z1, by rw [hz]; exact z2⟩
  rw [b_L_law_1936]
  simp only [iI_add, d1, d2, d3, d4, Option.bind_some]
  rw [b_X0_misfitReason_0, J.1.kx, Option.bind_some]
  refine (congrArg (fun o => bndI o _ tX) e1).trans ?_
  rw [bI_rI]
  simp only [g1, g2, g3, g4, Option.bind_some]
  (try rfl)
theorem lc_2028 (K : KV G hA sa len f) (J : JV G hA x m oa hs fi ar) {p : Int} (hp : 0 ≤ p ∧ p + 6 ≤ len) {w5 w6 w7 w8 : Option Value} : StL G hA sa x m oa p hs (t_Ev (t_pg G) t_hd Y_L_law 2028 ([some (.ref sa), some (.ref x), some (.ref m), some (.ref oa), some (.int (iI p)), w5, w6, w7, w8], [], hs)) := by
  obtain ⟨sv, a, ia, ow, dq, sb, ea, hd, gs, fs, X⟩ := J.1.xo
  obtain ⟨a1, i1, s1⟩ := i32 (f (p + 1).toNat)
  have d1 : ldI hs.1 (.ref sa) (iI (p + 1)) 0 0 = some (iI a1) := (J.1.ld K (by omega) (by omega)).trans (congrArg some s1)
  obtain ⟨a2, i2, s2⟩ := i32 (f (p + 2).toNat)
  have d2 : ldI hs.1 (.ref sa) (iI (p + 2)) 0 0 = some (iI a2) := (J.1.ld K (by omega) (by omega)).trans (congrArg some s2)
  obtain ⟨a3, i3, s3⟩ := i32 (f (p + 3).toNat)
  have d3 : ldI hs.1 (.ref sa) (iI (p + 3)) 0 0 = some (iI a3) := (J.1.ld K (by omega) (by omega)).trans (congrArg some s3)
  obtain ⟨a4, i4, s4⟩ := i32 (f (p + 4).toNat)
  have d4 : ldI hs.1 (.ref sa) (iI (p + 4)) 0 0 = some (iI a4) := (J.1.ld K (by omega) (by omega)).trans (congrArg some s4)
  obtain ⟨hs1, e1, J1, l1, z1, z2⟩ := J.w (y := Y_X0_pointsFor) (pc := 9) (ls := [some (.ref x), some (.int (iI a1)), some (.int (iI a2)), some (.int (iI a3)), some (.int (iI a4)), some (.ref oa), none]) (kc := kcA) (CQ.cg (hA := hA) X J.1.fr J.2.o199 (q_pointsFor X J.1.fr J.2 (J.1.ch K) i1 i2 i3 i4)) (by first | exact J.2.o199 | (unfold mvF; split <;> exact J.2.o199) | (split <;> exact J.2.o199)) (fun κ ax hx h hk => by
    have hs : κ = 15 ∨ κ = 17 := by
      (try unfold plR at h); (repeat' split at h) <;> first | (cases h; done) | (cases h; decide)
    rcases hs with rfl | rfl
    · exact (thr_to (pc' := 17) hk rfl).trans (by rw [b_X0_pointsFor_17]; rfl)
    · exact (thr_to (pc' := 21) hk rfl).trans (by rw [b_X0_pointsFor_21]; rfl)
    )
  have g1 : ldI hs1.1 (.ref sa) (iI (p + 1)) 0 0 = some (iI a1) := (J1.ld K (by omega) (by omega)).trans (congrArg some s1)
  have g2 : ldI hs1.1 (.ref sa) (iI (p + 2)) 0 0 = some (iI a2) := (J1.ld K (by omega) (by omega)).trans (congrArg some s2)
  have g3 : ldI hs1.1 (.ref sa) (iI (p + 3)) 0 0 = some (iI a3) := (J1.ld K (by omega) (by omega)).trans (congrArg some s3)
  have g4 : ldI hs1.1 (.ref sa) (iI (p + 4)) 0 0 = some (iI a4) := (J1.ld K (by omega) (by omega)).trans (congrArg some s4)
  obtain ⟨hs', fi', ar', xb, e, J', hz⟩ := J1.stX (E5 := fun a => t_Ev (t_pg G) t_hd Y_X5_pointsFor 0 ([some (.ref a), some (.int (iI a1)), some (.int (iI a2)), some (.int (iI a3)), some (.int (iI a4))], [], hs1)) (K := fun xa xb h => t_Ev (t_pg G) t_hd Y_L_law 2117 ([some (.ref sa), some (.ref x), some (.ref m), some (.ref oa), some (.int (iI p)), (some (.int xa)), (some (.int xb)), w7, w8], [], h)) (Z := fun h => rI 0 h) (J1.at (P := fun h => MM m hs1.1 hs1.2 kcA (t_Ev (t_pg G) t_hd Y_X5_pointsFor 0 ([some (.ref m), some (.int (iI a1)), some (.int (iI a2)), some (.int (iI a3)), some (.int (iI a4))], [], h)) _ _ _) (MM.ofQ J.2 (m_pointsFor J.2 i1 i2 i3 i4))) l1 (fun κ _ => by (first | (unfold kcA; split <;> (try split) <;> decide) | (unfold kcB; split <;> decide) | (unfold kcR; split <;> decide) | decide))
  refine ⟨hs', fi', ar', some (.int _), some (.int xb), w7, w8, Eq.trans ?_ (e.trans (b_L_law_2117 ..)), J', by rw [hz]; exact z1, by rw [hz]; exact z2⟩
  rw [b_L_law_2028]
  simp only [iI_add, d1, d2, d3, d4, Option.bind_some]
  rw [b_X0_pointsFor_0, J.1.kx, Option.bind_some]
  refine (congrArg (fun o => bndI o _ tX) e1).trans ?_
  rw [bI_rI]
  simp only [g1, g2, g3, g4, Option.bind_some]
  (try rfl)
theorem lc_2120 (K : KV G hA sa len f) (J : JV G hA x m oa hs fi ar) {p : Int} (hp : 0 ≤ p ∧ p + 6 ≤ len) {w5 w6 w7 w8 : Option Value} : StL G hA sa x m oa p hs (t_Ev (t_pg G) t_hd Y_L_law 2120 ([some (.ref sa), some (.ref x), some (.ref m), some (.ref oa), some (.int (iI p)), w5, w6, w7, w8], [], hs)) := by
  obtain ⟨sv, a, ia, ow, dq, sb, ea, hd, gs, fs, X⟩ := J.1.xo
  obtain ⟨a1, i1, s1⟩ := i32 (f (p + 1).toNat)
  have d1 : ldI hs.1 (.ref sa) (iI (p + 1)) 0 0 = some (iI a1) := (J.1.ld K (by omega) (by omega)).trans (congrArg some s1)
  obtain ⟨hs1, e1, J1, l1, z1, z2⟩ := J.w (y := Y_X0_mobility) (pc := 4) (ls := [some (.ref x), some (.int (iI a1)), some (.ref oa), none]) (kc := kcB) (CQ.cg (hA := hA) X J.1.fr J.2.o199 (q_mobility X J.1.fr J.2 (J.1.ch K) i1)) (by first | exact J.2.o199 | (unfold mvF; split <;> exact J.2.o199) | (split <;> exact J.2.o199)) (fun κ ax hx h hk => by
    have hs : κ = 17 := by
      (try unfold pyR at h); (repeat' split at h) <;> first | (cases h; done) | (cases h; decide)
    rcases hs with rfl
    · exact (thr_to (pc' := 12) hk rfl).trans (by rw [b_X0_mobility_12]; rfl)
    )
  have g1 : ldI hs1.1 (.ref sa) (iI (p + 1)) 0 0 = some (iI a1) := (J1.ld K (by omega) (by omega)).trans (congrArg some s1)
  obtain ⟨hs', fi', ar', xb, e, J', hz⟩ := J1.stX (E5 := fun a => t_Ev (t_pg G) t_hd Y_X5_mobility 0 ([some (.ref a), some (.int (iI a1))], [], hs1)) (K := fun xa xb h => t_Ev (t_pg G) t_hd Y_L_law 2173 ([some (.ref sa), some (.ref x), some (.ref m), some (.ref oa), some (.int (iI p)), (some (.int xa)), (some (.int xb)), w7, w8], [], h)) (Z := fun h => rI 0 h) (J1.at (P := fun h => MM m hs1.1 hs1.2 kcB (t_Ev (t_pg G) t_hd Y_X5_mobility 0 ([some (.ref m), some (.int (iI a1))], [], h)) _ _ _) (MM.ofQ J.2 (m_mobility J.2 i1))) l1 (fun κ _ => by (first | (unfold kcA; split <;> (try split) <;> decide) | (unfold kcB; split <;> decide) | (unfold kcR; split <;> decide) | decide))
  refine ⟨hs', fi', ar', some (.int _), some (.int xb), w7, w8, Eq.trans ?_ (e.trans (b_L_law_2173 ..)), J', by rw [hz]; exact z1, by rw [hz]; exact z2⟩
  rw [b_L_law_2120]
  simp only [iI_add, d1, Option.bind_some]
  rw [b_X0_mobility_0, J.1.kx, Option.bind_some]
  refine (congrArg (fun o => bndI o _ tX) e1).trans ?_
  rw [bI_rI]
  simp only [g1, Option.bind_some]
  (try rfl)
theorem lc_2176 (K : KV G hA sa len f) (J : JV G hA x m oa hs fi ar) {p : Int} (hp : 0 ≤ p ∧ p + 6 ≤ len) {w5 w6 w7 w8 : Option Value} : StL G hA sa x m oa p hs (t_Ev (t_pg G) t_hd Y_L_law 2176 ([some (.ref sa), some (.ref x), some (.ref m), some (.ref oa), some (.int (iI p)), w5, w6, w7, w8], [], hs)) := by
  obtain ⟨sv, a, ia, ow, dq, sb, ea, hd, gs, fs, X⟩ := J.1.xo
  obtain ⟨a1, i1, s1⟩ := i32 (f (p + 1).toNat)
  have d1 : ldI hs.1 (.ref sa) (iI (p + 1)) 0 0 = some (iI a1) := (J.1.ld K (by omega) (by omega)).trans (congrArg some s1)
  obtain ⟨hs1, e1, J1, l1, z1, z2⟩ := J.w (y := Y_X0_fittingPlacements) (pc := 4) (ls := [some (.ref x), some (.int (iI a1)), some (.ref oa), none]) (kc := kcA) (CQ.cg (hA := hA) X J.1.fr J.2.o199 (q_fittingPlacements X J.1.fr J.2 (J.1.ch K) i1)) (by first | exact J.2.o199 | (unfold mvF; split <;> exact J.2.o199) | (split <;> exact J.2.o199)) (fun κ ax hx h hk => by
    have hs : κ = 15 := by
      (repeat' split at h) <;> first | (cases h; done) | (cases h; decide)
    rcases hs with rfl
    · exact (thr_to (pc' := 12) hk rfl).trans (by rw [b_X0_fittingPlacements_12]; rfl)
    )
  have g1 : ldI hs1.1 (.ref sa) (iI (p + 1)) 0 0 = some (iI a1) := (J1.ld K (by omega) (by omega)).trans (congrArg some s1)
  obtain ⟨hs', fi', ar', xb, e, J', hz⟩ := J1.stX (E5 := fun a => t_Ev (t_pg G) t_hd Y_X5_fittingPlacements 0 ([some (.ref a), some (.int (iI a1))], [], hs1)) (K := fun xa xb h => t_Ev (t_pg G) t_hd Y_L_law 2229 ([some (.ref sa), some (.ref x), some (.ref m), some (.ref oa), some (.int (iI p)), (some (.int xa)), (some (.int xb)), w7, w8], [], h)) (Z := fun h => rI 0 h) (J1.at (P := fun h => MM m hs1.1 hs1.2 kcA (t_Ev (t_pg G) t_hd Y_X5_fittingPlacements 0 ([some (.ref m), some (.int (iI a1))], [], h)) _ _ _) (MM.ofQ J.2 (m_fittingPlacements J.2 i1))) l1 (fun κ _ => by (first | (unfold kcA; split <;> (try split) <;> decide) | (unfold kcB; split <;> decide) | (unfold kcR; split <;> decide) | decide))
  refine ⟨hs', fi', ar', some (.int _), some (.int xb), w7, w8, Eq.trans ?_ (e.trans (b_L_law_2229 ..)), J', by rw [hz]; exact z1, by rw [hz]; exact z2⟩
  rw [b_L_law_2176]
  simp only [iI_add, d1, Option.bind_some]
  rw [b_X0_fittingPlacements_0, J.1.kx, Option.bind_some]
  refine (congrArg (fun o => bndI o _ tX) e1).trans ?_
  rw [bI_rI]
  simp only [g1, Option.bind_some]
  (try rfl)
theorem lc_2232 (K : KV G hA sa len f) (J : JV G hA x m oa hs fi ar) {p : Int} (hp : 0 ≤ p ∧ p + 6 ≤ len) {w5 w6 w7 w8 : Option Value} : StL G hA sa x m oa p hs (t_Ev (t_pg G) t_hd Y_L_law 2232 ([some (.ref sa), some (.ref x), some (.ref m), some (.ref oa), some (.int (iI p)), w5, w6, w7, w8], [], hs)) := by
  obtain ⟨sv, a, ia, ow, dq, sb, ea, hd, gs, fs, X⟩ := J.1.xo
  obtain ⟨a1, i1, s1⟩ := i32 (f (p + 1).toNat)
  have d1 : ldI hs.1 (.ref sa) (iI (p + 1)) 0 0 = some (iI a1) := (J.1.ld K (by omega) (by omega)).trans (congrArg some s1)
  obtain ⟨a2, i2, s2⟩ := i32 (f (p + 2).toNat)
  have d2 : ldI hs.1 (.ref sa) (iI (p + 2)) 0 0 = some (iI a2) := (J.1.ld K (by omega) (by omega)).trans (congrArg some s2)
  obtain ⟨a3, i3, s3⟩ := i32 (f (p + 3).toNat)
  have d3 : ldI hs.1 (.ref sa) (iI (p + 3)) 0 0 = some (iI a3) := (J.1.ld K (by omega) (by omega)).trans (congrArg some s3)
  obtain ⟨a4, i4, s4⟩ := i32 (f (p + 4).toNat)
  have d4 : ldI hs.1 (.ref sa) (iI (p + 4)) 0 0 = some (iI a4) := (J.1.ld K (by omega) (by omega)).trans (congrArg some s4)
  obtain ⟨a5, i5, s5⟩ := i32 (f (p + 5).toNat)
  have d5 : ldI hs.1 (.ref sa) (iI (p + 5)) 0 0 = some (iI a5) := (J.1.ld K (by omega) (by omega)).trans (congrArg some s5)
  obtain ⟨hs1, e1, J1, l1, z1, z2⟩ := J.w (y := Y_X0_mobilityAfter) (pc := 11) (ls := [some (.ref x), some (.int (iI a1)), some (.int (iI a2)), some (.int (iI a3)), some (.int (iI a4)), some (.int (iI a5)), some (.ref oa), none]) (kc := kcA) (CQ.cg (hA := hA) X J.1.fr J.2.o199 (q_mobilityAfter X J.1.fr J.2 (J.1.ch K) i1 i2 i3 i4 i5)) (by first | exact J.2.o199 | (unfold mvF; split <;> exact J.2.o199) | (split <;> exact J.2.o199)) (fun κ ax hx h hk => by
    have hs : κ = 15 ∨ κ = 17 := by
      (try unfold plR at h); (try unfold pyR at h); (repeat' split at h) <;> first | (cases h; done) | (cases h; decide)
    rcases hs with rfl | rfl
    · exact (thr_to (pc' := 19) hk rfl).trans (by rw [b_X0_mobilityAfter_19]; rfl)
    · exact (thr_to (pc' := 23) hk rfl).trans (by rw [b_X0_mobilityAfter_23]; rfl)
    )
  have g1 : ldI hs1.1 (.ref sa) (iI (p + 1)) 0 0 = some (iI a1) := (J1.ld K (by omega) (by omega)).trans (congrArg some s1)
  have g2 : ldI hs1.1 (.ref sa) (iI (p + 2)) 0 0 = some (iI a2) := (J1.ld K (by omega) (by omega)).trans (congrArg some s2)
  have g3 : ldI hs1.1 (.ref sa) (iI (p + 3)) 0 0 = some (iI a3) := (J1.ld K (by omega) (by omega)).trans (congrArg some s3)
  have g4 : ldI hs1.1 (.ref sa) (iI (p + 4)) 0 0 = some (iI a4) := (J1.ld K (by omega) (by omega)).trans (congrArg some s4)
  have g5 : ldI hs1.1 (.ref sa) (iI (p + 5)) 0 0 = some (iI a5) := (J1.ld K (by omega) (by omega)).trans (congrArg some s5)
  obtain ⟨hs', fi', ar', xb, e, J', hz⟩ := J1.stX (E5 := fun a => t_Ev (t_pg G) t_hd Y_X5_mobilityAfter 0 ([some (.ref a), some (.int (iI a1)), some (.int (iI a2)), some (.int (iI a3)), some (.int (iI a4)), some (.int (iI a5)), none], [], hs1)) (K := fun xa xb h => t_Ev (t_pg G) t_hd Y_L_law 2333 ([some (.ref sa), some (.ref x), some (.ref m), some (.ref oa), some (.int (iI p)), (some (.int xa)), (some (.int xb)), w7, w8], [], h)) (Z := fun h => rI 0 h) (J1.at (P := fun h => MM m hs1.1 hs1.2 kcA (t_Ev (t_pg G) t_hd Y_X5_mobilityAfter 0 ([some (.ref m), some (.int (iI a1)), some (.int (iI a2)), some (.int (iI a3)), some (.int (iI a4)), some (.int (iI a5)), none], [], h)) _ _ _) (MM.ofQ J.2 (m_mobilityAfter J.2 i1 i2 i3 i4 i5))) l1 (fun κ _ => by (first | (unfold kcA; split <;> (try split) <;> decide) | (unfold kcB; split <;> decide) | (unfold kcR; split <;> decide) | decide))
  refine ⟨hs', fi', ar', some (.int _), some (.int xb), w7, w8, Eq.trans ?_ (e.trans (b_L_law_2333 ..)), J', by rw [hz]; exact z1, by rw [hz]; exact z2⟩
  rw [b_L_law_2232]
  simp only [iI_add, d1, d2, d3, d4, d5, Option.bind_some]
  rw [b_X0_mobilityAfter_0, J.1.kx, Option.bind_some]
  refine (congrArg (fun o => bndI o _ tX) e1).trans ?_
  rw [bI_rI]
  simp only [g1, g2, g3, g4, g5, Option.bind_some]
  (try rfl)
theorem lc_2427 (K : KV G hA sa len f) (J : JV G hA x m oa hs fi ar) {p : Int} (hp : 0 ≤ p ∧ p + 6 ≤ len) {w5 w6 w7 w8 : Option Value} : StL G hA sa x m oa p hs (t_Ev (t_pg G) t_hd Y_L_law 2427 ([some (.ref sa), some (.ref x), some (.ref m), some (.ref oa), some (.int (iI p)), w5, w6, w7, w8], [], hs)) := by
  obtain ⟨sv, a, ia, ow, dq, sb, ea, hd, gs, fs, X⟩ := J.1.xo
  obtain ⟨L, lf⟩ := Lf_ex (s := ar 0) J.2.w.bd.dm J.2.w.rb
  obtain ⟨a1, i1, s1⟩ := i32 (f (p + 1).toNat)
  have d1 : ldI hs.1 (.ref sa) (iI (p + 1)) 0 0 = some (iI a1) := (J.1.ld K (by omega) (by omega)).trans (congrArg some s1)
  obtain ⟨a2, i2, s2⟩ := i32 (f (p + 2).toNat)
  have d2 : ldI hs.1 (.ref sa) (iI (p + 2)) 0 0 = some (iI a2) := (J.1.ld K (by omega) (by omega)).trans (congrArg some s2)
  obtain ⟨hs1, e1, J1, l1, z1, z2⟩ := J.w (y := Y_X0_regionSize) (pc := 5) (ls := [some (.ref x), some (.int (iI a1)), some (.int (iI a2)), some (.ref oa), none]) (kc := kcB) (CQ.cg (hA := hA) X J.1.fr J.2.o199 (q_regionSize X J.1.fr J.2 lf i1 i2)) (by first | exact J.2.o199 | (unfold mvF; split <;> exact J.2.o199) | (split <;> exact J.2.o199)) (fun κ ax hx h hk => by
    have hs : κ = 17 := by
      (repeat' split at h) <;> first | (cases h; done) | (cases h; decide)
    rcases hs with rfl
    · exact (thr_to (pc' := 13) hk rfl).trans (by rw [b_X0_regionSize_13]; rfl)
    )
  have g1 : ldI hs1.1 (.ref sa) (iI (p + 1)) 0 0 = some (iI a1) := (J1.ld K (by omega) (by omega)).trans (congrArg some s1)
  have g2 : ldI hs1.1 (.ref sa) (iI (p + 2)) 0 0 = some (iI a2) := (J1.ld K (by omega) (by omega)).trans (congrArg some s2)
  obtain ⟨hs', fi', ar', xb, e, J', hz⟩ := J1.stX (E5 := fun a => t_Ev (t_pg G) t_hd Y_X5_regionSize 0 ([some (.ref a), some (.int (iI a1)), some (.int (iI a2))], [], hs1)) (K := fun xa xb h => t_Ev (t_pg G) t_hd Y_L_law 2492 ([some (.ref sa), some (.ref x), some (.ref m), some (.ref oa), some (.int (iI p)), (some (.int xa)), (some (.int xb)), w7, w8], [], h)) (Z := fun h => rI 0 h) (J1.at (P := fun h => MM m hs1.1 hs1.2 kcB (t_Ev (t_pg G) t_hd Y_X5_regionSize 0 ([some (.ref m), some (.int (iI a1)), some (.int (iI a2))], [], h)) _ _ _) (MM.ofQ J.2 (m_regionSize J.2 lf i1 i2))) l1 (fun κ _ => by (first | (unfold kcA; split <;> (try split) <;> decide) | (unfold kcB; split <;> decide) | (unfold kcR; split <;> decide) | decide))
  refine ⟨hs', fi', ar', some (.int _), some (.int xb), w7, w8, Eq.trans ?_ (e.trans (b_L_law_2492 ..)), J', by rw [hz]; exact z1, by rw [hz]; exact z2⟩
  rw [b_L_law_2427]
  simp only [iI_add, d1, d2, Option.bind_some]
  rw [b_X0_regionSize_0, J.1.kx, Option.bind_some]
  refine (congrArg (fun o => bndI o _ tX) e1).trans ?_
  rw [bI_rI]
  simp only [g1, g2, Option.bind_some]
  (try rfl)
theorem lc_2495 (K : KV G hA sa len f) (J : JV G hA x m oa hs fi ar) {p : Int} (hp : 0 ≤ p ∧ p + 6 ≤ len) {w5 w6 w7 w8 : Option Value} : StL G hA sa x m oa p hs (t_Ev (t_pg G) t_hd Y_L_law 2495 ([some (.ref sa), some (.ref x), some (.ref m), some (.ref oa), some (.int (iI p)), w5, w6, w7, w8], [], hs)) := by
  obtain ⟨sv, a, ia, ow, dq, sb, ea, hd, gs, fs, X⟩ := J.1.xo
  obtain ⟨a1, i1, s1⟩ := i32 (f (p + 1).toNat)
  have d1 : ldI hs.1 (.ref sa) (iI (p + 1)) 0 0 = some (iI a1) := (J.1.ld K (by omega) (by omega)).trans (congrArg some s1)
  obtain ⟨a2, i2, s2⟩ := i32 (f (p + 2).toNat)
  have d2 : ldI hs.1 (.ref sa) (iI (p + 2)) 0 0 = some (iI a2) := (J.1.ld K (by omega) (by omega)).trans (congrArg some s2)
  obtain ⟨hs1, e1, J1, l1, z1, z2⟩ := J.wb (y := Y_X0_isDead) (pc := 5) (ls := [some (.ref x), some (.int (iI a1)), some (.int (iI a2)), some (.ref oa), none]) (kc := kcB) (CQ.cg (hA := hA) X J.1.fr J.2.o199 (q_isDead X J.1.fr J.2 (J.1.ch K) (J.1.la K) i1 i2)) (by first | exact J.2.o199 | (unfold mvF; split <;> exact J.2.o199) | (split <;> exact J.2.o199)) (fun w h => by (repeat' split at h) <;> first | (cases h; done) | (cases h; exact bB_01)) (fun κ ax hx h hk => by
    have hs : κ = 17 := by
      (repeat' split at h) <;> first | (cases h; done) | (cases h; decide)
    rcases hs with rfl
    · exact (thr_to (pc' := 20) hk rfl).trans (by rw [b_X0_isDead_20]; rfl)
    )
  have g1 : ldI hs1.1 (.ref sa) (iI (p + 1)) 0 0 = some (iI a1) := (J1.ld K (by omega) (by omega)).trans (congrArg some s1)
  have g2 : ldI hs1.1 (.ref sa) (iI (p + 2)) 0 0 = some (iI a2) := (J1.ld K (by omega) (by omega)).trans (congrArg some s2)
  obtain ⟨hs', fi', ar', xb, e, J', hz⟩ := J1.stXB (E5 := fun a => t_Ev (t_pg G) t_hd Y_X5_isDead 0 ([some (.ref a), some (.int (iI a1)), some (.int (iI a2))], [], hs1)) (K := fun xa xb h => t_Ev (t_pg G) t_hd Y_L_law 2567 ([some (.ref sa), some (.ref x), some (.ref m), some (.ref oa), some (.int (iI p)), (some (.int xa)), (some (.int xb)), w7, w8], [], h)) (K9 := fun xa xb l c h => t_Ev (t_pg G) t_hd Y_L_law 2561 ([some (.ref sa), some (.ref x), some (.ref m), some (.ref oa), some (.int (iI p)), (some (.int xa)), (some (.int xb)), w7, w8], [(.long c), (.long l)], h)) (Z := fun h => rI 0 h) (J1.at (P := fun h => MM m hs1.1 hs1.2 kcB (t_Ev (t_pg G) t_hd Y_X5_isDead 0 ([some (.ref m), some (.int (iI a1)), some (.int (iI a2))], [], h)) _ _ _) (MM.ofQ J.2 (m_isDead J.2 i1 i2))) l1 (fun κ _ => by (first | (unfold kcA; split <;> (try split) <;> decide) | (unfold kcB; split <;> decide) | (unfold kcR; split <;> decide) | decide)) (fun w h => by (repeat' split at h) <;> first | (cases h; done) | (cases h; exact bB_01)) (fun a b l h => by rw [b_L_law_2561, lg_self, if_pos rfl])
  refine ⟨hs', fi', ar', some (.int _), some (.int xb), w7, w8, Eq.trans ?_ (e.trans (b_L_law_2567 ..)), J', by rw [hz]; exact z1, by rw [hz]; exact z2⟩
  rw [b_L_law_2495]
  simp only [iI_add, d1, d2, Option.bind_some]
  rw [b_X0_isDead_0, J.1.kx, Option.bind_some]
  refine (congrArg (fun o => bndI o _ tX) e1).trans ?_
  rw [bI_rI]
  simp only [g1, g2, Option.bind_some]
  (try rfl)
end CSX
