/-! ===== the law's loop ===== -/
section LOP
variable {G : tG} {hA : tHS} {sa len x m oa : Nat} {f : Nat → Int32}
theorem StL.ite {p : Int} {hs : tHS} {c : Prop} [Decidable c] {A B : Option tRS} (a : StL G hA sa x m oa p hs A) (b : StL G hA sa x m oa p hs B) : StL G hA sa x m oa p hs (if c then A else B) := by
  by_cases h : c
  · rw [if_pos h]; exact a
  · rw [if_neg h]; exact b
theorem iI_nat {n : Nat} : Int32.ofNat n = iI (n : Int) := rfl
theorem l_loop (K : KV G hA sa len f) : ∀ (k : Nat) {hs : tHS} {fi : Nat → Int} {ar : Nat → Nat → Int} {p : Int} {w5 w6 w7 w8 : Option Value} (_ : JV G hA x m oa hs fi ar) (_ : 0 ≤ p) (_ : p ≤ len) (_ : (len : Int) < p + 6 + 6 * k), ∃ hs', t_Ev (t_pg G) t_hd Y_L_law 23 ([some (.ref sa), some (.ref x), some (.ref m), some (.ref oa), some (.int (iI p)), w5, w6, w7, w8], [], hs) = rI 1 hs' ∧ hs'.2.1 ≤ hs.2.1 + k * 31000 ∧ hs'.2.2 ≤ hs.2.2 + k * 182000 := by
  intro k
  induction k with
  | zero =>
    intro hs fi ar p w5 w6 w7 w8 J h0 hl hk
    obtain ⟨hq, b, e⟩ := K.sc
    have ln := K.ln
    refine ⟨hs, ?_, Nat.le_add_right _ _, Nat.le_add_right _ _⟩
    rw [b_L_law_23, aLen_at ((J.1.lo _ hq).trans e), Option.bind_some, iI_nat, iI_sub]
    rw [if_pos (show iI ((len : Int) - 6) < iI p by rw [iI_lt (by omega) (by omega) (by omega) (by omega)]; omega)]
    rfl
  | succ k ih =>
    intro hs fi ar p w5 w6 w7 w8 J h0 hl hk
    obtain ⟨hq, b, e⟩ := K.sc
    have ln := K.ln
    by_cases c : (len : Int) - 6 < p
    · refine ⟨hs, ?_, Nat.le_add_right _ _, Nat.le_add_right _ _⟩
      rw [b_L_law_23, aLen_at ((J.1.lo _ hq).trans e), Option.bind_some, iI_nat, iI_sub]
      rw [if_pos (show iI ((len : Int) - 6) < iI p by rw [iI_lt (by omega) (by omega) (by omega) (by omega)]; omega)]
      rfl
    · have hp : 0 ≤ p ∧ p + 6 ≤ len := by omega
      have st : StL G hA sa x m oa p hs (t_Ev (t_pg G) t_hd Y_L_law 23 ([some (.ref sa), some (.ref x), some (.ref m), some (.ref oa), some (.int (iI p)), w5, w6, w7, w8], [], hs)) := by
        rw [b_L_law_23, aLen_at ((J.1.lo _ hq).trans e), Option.bind_some, iI_nat, iI_sub]
        rw [if_neg (show ¬ iI ((len : Int) - 6) < iI p by rw [iI_lt (by omega) (by omega) (by omega) (by omega)]; omega), J.1.ld K h0 (by omega), Option.bind_some]
        exact (StL.ite (lc_284 K J hp) (StL.ite (lc_357 K J hp) (StL.ite (lc_413 K J hp) (StL.ite (lc_426 K J hp) (StL.ite (lc_439 K J hp) (StL.ite (lc_452 K J hp) (StL.ite (lc_465 K J hp) (StL.ite (lc_557 K J hp) (StL.ite (lc_637 K J hp) (StL.ite (lc_681 K J hp) (StL.ite (lc_725 K J hp) (StL.ite (lc_781 K J hp) (StL.ite (lc_837 K J hp) (StL.ite (lc_850 K J hp) (StL.ite (lc_863 K J hp) (StL.ite (lc_876 K J hp) (StL.ite (lc_889 K J hp) (StL.ite (lc_902 K J hp) (StL.ite (lc_915 K J hp) (StL.ite (lc_928 K J hp) (StL.ite (lc_1003 K J hp) (StL.ite (lc_1071 K J hp) (StL.ite (lc_1158 K J hp) (StL.ite (lc_1214 K J hp) (StL.ite (lc_1270 K J hp) (StL.ite (lc_1326 K J hp) (StL.ite (lc_1382 K J hp) (StL.ite (lc_1438 K J hp) (StL.ite (lc_1494 K J hp) (StL.ite (lc_1550 K J hp) (StL.ite (lc_1563 K J hp) (StL.ite (lc_1576 K J hp) (StL.ite (lc_1589 K J hp) (StL.ite (lc_1645 K J hp) (StL.ite (lc_1713 K J hp) (StL.ite (lc_1769 K J hp) (StL.ite (lc_1837 K J hp) (StL.ite (lc_1936 K J hp) (StL.ite (lc_2028 K J hp) (StL.ite (lc_2120 K J hp) (StL.ite (lc_2176 K J hp) (StL.ite (lc_2232 K J hp) (StL.ite (lc_2336 K J hp) (StL.ite (lc_2349 K J hp) (StL.ite (lc_2362 K J hp) (StL.ite (lc_2375 K J hp) (StL.ite (lc_2388 K J hp) (StL.ite (lc_2401 K J hp) (StL.ite (lc_2414 K J hp) (StL.ite (lc_2427 K J hp) (StL.ite (lc_2495 K J hp) (StL.ite (lc_2570 K J hp) (StL.ite (lc_2583 K J hp) (StL.ite (lc_2596 K J hp) (StL.ite (lc_2637 K J hp) (StL.ite (lc_2680 K J hp) (StL.ite (lc_2693 K J hp) ⟨hs, fi, ar, w5, w6, w7, w8, rfl, J, Nat.le_add_right _ _, Nat.le_add_right _ _⟩)))))))))))))))))))))))))))))))))))))))))))))))))))))))))
      obtain ⟨h1, f1, a1, v5, v6, v7, v8, e1, J1, z1, z2⟩ := st
      obtain ⟨h2, e2, y1, y2⟩ := ih (p := p + 6) (w5 := v5) (w6 := v6) (w7 := v7) (w8 := v8) J1 (by omega) (by omega) (by omega)
      refine ⟨h2, e1.trans (Eq.trans ?_ e2), ?_, ?_⟩
      · rw [b_L_law_2718, iI_add]
      · rw [Nat.succ_mul]; omega
      · rw [Nat.succ_mul]; omega
end LOP
