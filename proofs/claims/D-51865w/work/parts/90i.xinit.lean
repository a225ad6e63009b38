/-! ===== the component made ===== -/
/-- the heap before the game is filled -/
def hX (n : Nat) (G : tG) (fv : Nat → Option Nat) (g : tAH) : tAH := fun q =>
  if q = n then some (true, 0, .inl [.ref (n+1), .null, .ref (n+2), .int (iI 0), .int (iI 0), .int (iI (-1)), .ref (G.1 13), .ref (n+3), .ref (n+5)])
  else if q = n + 1 then some (true, 4, .inr (5, rfs fv))
  else if q = n + 2 then some (true, 2, .inr (600, .inl fun _ => 0))
  else if q = n + 3 then some (true, 9, .inl [.ref (n+4), .int (iI 0), .int (iI 0)])
  else if q = n + 4 then some (true, 5, .inr (17, rfs fun _ => none))
  else if q = n + 5 then some (true, 6, .inr (2, rfs fun _ => none))
  else if q = n + 6 then some (true, 2, .inl [.null, .int (iI 0), .int (iI 0), .null, .null, .null, .int (iI 0), .null, .int (iI 0), .int (iI 0), .int (iI 0)])
  else g q
section XIN
variable {G : tG} {hs : tHS}
theorem bV_some {h : tHS} {K : tHS → Option tRS} {X : Nat → tHS → Option tRS} : bndV (some (.inl none, h)) K X = K h := rfl
theorem x_init0 {D : Nat → Prop} (hF : Fi hs) (S : SV G D hs.1 (G.1 10)) : ∃ fv, (∀ j, j < 5 → fv j = some (G.1 j)) ∧ t_Ev (t_pg G) t_hd Y_X1_init 0 ([some (.ref hs.2.1)], [], (t_al hs (true, 0, .inl [.null, .null, .null, .int (iI 0), .int (iI 0), .int (iI 0), .null, .null, .null]) 9)) = bndV (t_Ev (t_pg G) t_hd Y_X3_init 0 ([some (.ref (hs.2.1 + 6)), some (.ref (hs.2.1 + 1)), some (.int (iI 5)), some (.int (iI 4)), none], [], (hX hs.2.1 G fv hs.1, hs.2.1 + 7, hs.2.2 + 647))) (fun hs_11 => (pfV hs_11.1 (.ref hs.2.1) 0 1 (.ref (hs.2.1 + 6))).bind fun h_12 => (gfR h_12 (.ref hs.2.1) 0 1).bind fun o_13 => (t_kN h_12 (va_rf o_13) 2).bind fun a_14 => bndV (t_Ev (t_pg G) t_hd Y_X3_block 0 ([some (.ref a_14), some (.int (iI 4)), some (.int (iI 0))], [], h_12, hs_11.2)) (fun hs_15 => (gfR hs_15.1 (.ref hs.2.1) 0 1).bind fun o_16 => (t_kN hs_15.1 (va_rf o_16) 2).bind fun a_17 => bndV (t_Ev (t_pg G) t_hd Y_X3_block 0 ([some (.ref a_17), some (.int (iI 0)), some (.int (iI 3))], [], hs_15)) (fun hs_18 => (gfR hs_18.1 (.ref hs.2.1) 0 1).bind fun o_19 => (t_kN hs_18.1 (va_rf o_19) 2).bind fun a_20 => bndV (t_Ev (t_pg G) t_hd Y_X3_setStrap 0 ([some (.ref a_20), some (.int (iI 1)), some (.int (iI 1)), some (.int (iI 0)), some (.int (iI 1))], [], hs_18)) (fun hs_21 => (gfR hs_21.1 (.ref hs.2.1) 0 1).bind fun o_22 => (t_kN hs_21.1 (va_rf o_22) 2).bind fun a_23 => bndV (t_Ev (t_pg G) t_hd Y_X3_setStrap 0 ([some (.ref a_23), some (.int (iI 2)), some (.int (iI 2)), some (.int (iI 1)), some (.int (iI 1))], [], hs_21)) (fun hs_24 => (gfR hs_24.1 (.ref hs.2.1) 0 1).bind fun o_25 => (stI ((t_al hs_24 (t_arr0 0 5) 5).1) (.ref hs_24.2.1) (iI 0) 0 0 (iI 2)).bind fun h_26 => (stI h_26 (.ref hs_24.2.1) (iI 1) 0 0 (iI 2)).bind fun h_27 => (stI h_27 (.ref hs_24.2.1) (iI 2) 0 0 (iI 1)).bind fun h_28 => (stI h_28 (.ref hs_24.2.1) (iI 3) 0 0 (iI 1)).bind fun h_29 => (stI h_29 (.ref hs_24.2.1) (iI 4) 0 0 (iI 1)).bind fun h_30 => (t_kN h_30 (va_rf o_25) 2).bind fun a_31 => bndV (t_Ev (t_pg G) t_hd Y_X3_addPlayer 0 ([some (.ref a_31), some (.ref (G.1 21)), some (.int (iI 1)), some (.ref hs_24.2.1)], [], h_30, ((t_al hs_24 (t_arr0 0 5) 5).2))) (fun hs_32 => (gfR hs_32.1 (.ref hs.2.1) 0 1).bind fun o_33 => (stI ((t_al hs_32 (t_arr0 0 5) 5).1) (.ref hs_32.2.1) (iI 0) 0 0 (iI 1)).bind fun h_34 => (stI h_34 (.ref hs_32.2.1) (iI 1) 0 0 (iI 3)).bind fun h_35 => (stI h_35 (.ref hs_32.2.1) (iI 2) 0 0 (iI 1)).bind fun h_36 => (stI h_36 (.ref hs_32.2.1) (iI 3) 0 0 (iI 0)).bind fun h_37 => (stI h_37 (.ref hs_32.2.1) (iI 4) 0 0 (iI 1)).bind fun h_38 => (t_kN h_38 (va_rf o_33) 2).bind fun a_39 => bndV (t_Ev (t_pg G) t_hd Y_X3_addPlayer 0 ([some (.ref a_39), some (.ref (G.1 29)), some (.int (iI 2)), some (.ref hs_32.2.1)], [], h_38, ((t_al hs_32 (t_arr0 0 5) 5).2))) (fun hs_40 => some (.inl none, hs_40)) tX) tX) tX) tX) tX) tX) tX := by
  obtain ⟨-, b, fv, e, ef⟩ := S
  refine ⟨fv, ef, ?_⟩
  have lt := hF.lt e
  have last : ∀ (h : tAH) (z : Nat × Nat), h = hX hs.2.1 G fv hs.1 → z = (hs.2.1 + 7, hs.2.2 + 647) → bndV (t_Ev (t_pg G) t_hd Y_X3_init 0 ([some (.ref (hs.2.1 + 6)), some (.ref (hs.2.1 + 1)), some (.int (iI 5)), some (.int (iI 4)), none], [], (h, z))) (fun hs_11 => (pfV hs_11.1 (.ref hs.2.1) 0 1 (.ref (hs.2.1 + 6))).bind fun h_12 => (gfR h_12 (.ref hs.2.1) 0 1).bind fun o_13 => (t_kN h_12 (va_rf o_13) 2).bind fun a_14 => bndV (t_Ev (t_pg G) t_hd Y_X3_block 0 ([some (.ref a_14), some (.int (iI 4)), some (.int (iI 0))], [], h_12, hs_11.2)) (fun hs_15 => (gfR hs_15.1 (.ref hs.2.1) 0 1).bind fun o_16 => (t_kN hs_15.1 (va_rf o_16) 2).bind fun a_17 => bndV (t_Ev (t_pg G) t_hd Y_X3_block 0 ([some (.ref a_17), some (.int (iI 0)), some (.int (iI 3))], [], hs_15)) (fun hs_18 => (gfR hs_18.1 (.ref hs.2.1) 0 1).bind fun o_19 => (t_kN hs_18.1 (va_rf o_19) 2).bind fun a_20 => bndV (t_Ev (t_pg G) t_hd Y_X3_setStrap 0 ([some (.ref a_20), some (.int (iI 1)), some (.int (iI 1)), some (.int (iI 0)), some (.int (iI 1))], [], hs_18)) (fun hs_21 => (gfR hs_21.1 (.ref hs.2.1) 0 1).bind fun o_22 => (t_kN hs_21.1 (va_rf o_22) 2).bind fun a_23 => bndV (t_Ev (t_pg G) t_hd Y_X3_setStrap 0 ([some (.ref a_23), some (.int (iI 2)), some (.int (iI 2)), some (.int (iI 1)), some (.int (iI 1))], [], hs_21)) (fun hs_24 => (gfR hs_24.1 (.ref hs.2.1) 0 1).bind fun o_25 => (stI ((t_al hs_24 (t_arr0 0 5) 5).1) (.ref hs_24.2.1) (iI 0) 0 0 (iI 2)).bind fun h_26 => (stI h_26 (.ref hs_24.2.1) (iI 1) 0 0 (iI 2)).bind fun h_27 => (stI h_27 (.ref hs_24.2.1) (iI 2) 0 0 (iI 1)).bind fun h_28 => (stI h_28 (.ref hs_24.2.1) (iI 3) 0 0 (iI 1)).bind fun h_29 => (stI h_29 (.ref hs_24.2.1) (iI 4) 0 0 (iI 1)).bind fun h_30 => (t_kN h_30 (va_rf o_25) 2).bind fun a_31 => bndV (t_Ev (t_pg G) t_hd Y_X3_addPlayer 0 ([some (.ref a_31), some (.ref (G.1 21)), some (.int (iI 1)), some (.ref hs_24.2.1)], [], h_30, ((t_al hs_24 (t_arr0 0 5) 5).2))) (fun hs_32 => (gfR hs_32.1 (.ref hs.2.1) 0 1).bind fun o_33 => (stI ((t_al hs_32 (t_arr0 0 5) 5).1) (.ref hs_32.2.1) (iI 0) 0 0 (iI 1)).bind fun h_34 => (stI h_34 (.ref hs_32.2.1) (iI 1) 0 0 (iI 3)).bind fun h_35 => (stI h_35 (.ref hs_32.2.1) (iI 2) 0 0 (iI 1)).bind fun h_36 => (stI h_36 (.ref hs_32.2.1) (iI 3) 0 0 (iI 0)).bind fun h_37 => (stI h_37 (.ref hs_32.2.1) (iI 4) 0 0 (iI 1)).bind fun h_38 => (t_kN h_38 (va_rf o_33) 2).bind fun a_39 => bndV (t_Ev (t_pg G) t_hd Y_X3_addPlayer 0 ([some (.ref a_39), some (.ref (G.1 29)), some (.int (iI 2)), some (.ref hs_32.2.1)], [], h_38, ((t_al hs_32 (t_arr0 0 5) 5).2))) (fun hs_40 => some (.inl none, hs_40)) tX) tX) tX) tX) tX) tX) tX = bndV (t_Ev (t_pg G) t_hd Y_X3_init 0 ([some (.ref (hs.2.1 + 6)), some (.ref (hs.2.1 + 1)), some (.int (iI 5)), some (.int (iI 4)), none], [], (hX hs.2.1 G fv hs.1, hs.2.1 + 7, hs.2.2 + 647))) (fun hs_11 => (pfV hs_11.1 (.ref hs.2.1) 0 1 (.ref (hs.2.1 + 6))).bind fun h_12 => (gfR h_12 (.ref hs.2.1) 0 1).bind fun o_13 => (t_kN h_12 (va_rf o_13) 2).bind fun a_14 => bndV (t_Ev (t_pg G) t_hd Y_X3_block 0 ([some (.ref a_14), some (.int (iI 4)), some (.int (iI 0))], [], h_12, hs_11.2)) (fun hs_15 => (gfR hs_15.1 (.ref hs.2.1) 0 1).bind fun o_16 => (t_kN hs_15.1 (va_rf o_16) 2).bind fun a_17 => bndV (t_Ev (t_pg G) t_hd Y_X3_block 0 ([some (.ref a_17), some (.int (iI 0)), some (.int (iI 3))], [], hs_15)) (fun hs_18 => (gfR hs_18.1 (.ref hs.2.1) 0 1).bind fun o_19 => (t_kN hs_18.1 (va_rf o_19) 2).bind fun a_20 => bndV (t_Ev (t_pg G) t_hd Y_X3_setStrap 0 ([some (.ref a_20), some (.int (iI 1)), some (.int (iI 1)), some (.int (iI 0)), some (.int (iI 1))], [], hs_18)) (fun hs_21 => (gfR hs_21.1 (.ref hs.2.1) 0 1).bind fun o_22 => (t_kN hs_21.1 (va_rf o_22) 2).bind fun a_23 => bndV (t_Ev (t_pg G) t_hd Y_X3_setStrap 0 ([some (.ref a_23), some (.int (iI 2)), some (.int (iI 2)), some (.int (iI 1)), some (.int (iI 1))], [], hs_21)) (fun hs_24 => (gfR hs_24.1 (.ref hs.2.1) 0 1).bind fun o_25 => (stI ((t_al hs_24 (t_arr0 0 5) 5).1) (.ref hs_24.2.1) (iI 0) 0 0 (iI 2)).bind fun h_26 => (stI h_26 (.ref hs_24.2.1) (iI 1) 0 0 (iI 2)).bind fun h_27 => (stI h_27 (.ref hs_24.2.1) (iI 2) 0 0 (iI 1)).bind fun h_28 => (stI h_28 (.ref hs_24.2.1) (iI 3) 0 0 (iI 1)).bind fun h_29 => (stI h_29 (.ref hs_24.2.1) (iI 4) 0 0 (iI 1)).bind fun h_30 => (t_kN h_30 (va_rf o_25) 2).bind fun a_31 => bndV (t_Ev (t_pg G) t_hd Y_X3_addPlayer 0 ([some (.ref a_31), some (.ref (G.1 21)), some (.int (iI 1)), some (.ref hs_24.2.1)], [], h_30, ((t_al hs_24 (t_arr0 0 5) 5).2))) (fun hs_32 => (gfR hs_32.1 (.ref hs.2.1) 0 1).bind fun o_33 => (stI ((t_al hs_32 (t_arr0 0 5) 5).1) (.ref hs_32.2.1) (iI 0) 0 0 (iI 1)).bind fun h_34 => (stI h_34 (.ref hs_32.2.1) (iI 1) 0 0 (iI 3)).bind fun h_35 => (stI h_35 (.ref hs_32.2.1) (iI 2) 0 0 (iI 1)).bind fun h_36 => (stI h_36 (.ref hs_32.2.1) (iI 3) 0 0 (iI 0)).bind fun h_37 => (stI h_37 (.ref hs_32.2.1) (iI 4) 0 0 (iI 1)).bind fun h_38 => (t_kN h_38 (va_rf o_33) 2).bind fun a_39 => bndV (t_Ev (t_pg G) t_hd Y_X3_addPlayer 0 ([some (.ref a_39), some (.ref (G.1 29)), some (.int (iI 2)), some (.ref hs_32.2.1)], [], h_38, ((t_al hs_32 (t_arr0 0 5) 5).2))) (fun hs_40 => some (.inl none, hs_40)) tX) tX) tX) tX) tX) tX) tX := by
    rintro h z rfl rfl
    rfl
  obtain ⟨h0, n0, z0⟩ := hs
  dsimp only at last lt e ⊢
  have cl : clR (t_up h0 n0 (true, 0, .inl [.null, .null, .null, .int (iI 0), .int (iI 0), .int (iI 0), .null, .null, .null])) (.ref (G.1 10)) 4 = some (true, 4, .inr (5, rfs fv)) := by
    simp only [clR, t_up_n (Nat.ne_of_lt lt), e, if_true]
  rw [b_X1_init_0, b_X2_values_0]
  simp only [t_al]
  rw [cl, Option.bind_some]
  have kA : t_kA (t_up (t_up h0 n0 (true, 0, .inl [.null, .null, .null, .int (iI 0), .int (iI 0), .int (iI 0), .null, .null, .null])) (n0 + 1) (true, 4, .inr (5, rfs fv))) (.ref (n0 + 1)) 4 = some (n0 + 1) := by
    simp only [t_kA, t_up_s]
    (try rfl)
  rw [kA, Option.bind_some]
  dsimp only [bndR, va_rf]
  rw [pf_at ((t_up_n (show n0 ≠ n0 + 1 by omega)).trans t_up_s) (Nat.le_of_ble_eq_true rfl), Option.bind_some]
  rw [pf_at ((t_up_n (show n0 ≠ n0 + 1 + 1 by omega)).trans t_up_s) (Nat.le_of_ble_eq_true rfl), Option.bind_some]
  rw [pf_at t_up_s (Nat.le_of_ble_eq_true rfl), Option.bind_some]
  rw [pf_at t_up_s (Nat.le_of_ble_eq_true rfl), Option.bind_some]
  rw [b_J2_init_0, b_J1_init_0, bV_some]
  simp only [t_al]
  rw [pf_at ((t_up_n (show n0 + 1 + 1 + 1 ≠ n0 + 1 + 1 + 1 + 1 by omega)).trans t_up_s) (Nat.le_of_ble_eq_true rfl), Option.bind_some]
  rw [bV_some]
  simp only [t_al]
  rw [pf_at ((t_up_n (show n0 ≠ n0 + 1 + 1 + 1 by omega)).trans ((t_up_n (show n0 ≠ n0 + 1 + 1 + 1 + 1 by omega)).trans ((t_up_n (show n0 ≠ n0 + 1 + 1 + 1 by omega)).trans t_up_s))) (Nat.le_of_ble_eq_true rfl), Option.bind_some]
  rw [pf_at ((t_up_n (show n0 ≠ n0 + 1 + 1 + 1 + 1 + 1 by omega)).trans t_up_s) (Nat.le_of_ble_eq_true rfl), Option.bind_some]
  rw [gfR_at (k := 0) (q := n0 + 1) ((t_up_n (show n0 ≠ n0 + 1 + 1 + 1 + 1 + 1 + 1 by omega)).trans t_up_s) rfl, Option.bind_some]
  refine last _ _ (funext fun q => ?_) rfl
  simp only [List.set]
  unfold hX
  by_cases c0 : q = n0
  · subst c0
    simp [t_up] <;> omega
  by_cases c1 : q = n0 + 1
  · subst c1
    simp [t_up]
  by_cases c2 : q = n0 + 2
  · subst c2
    simp [t_up] <;> rfl
  by_cases c3 : q = n0 + 3
  · subst c3
    simp [t_up] <;> rfl
  by_cases c4 : q = n0 + 4
  · subst c4
    simp [t_up] <;> rfl
  by_cases c5 : q = n0 + 5
  · subst c5
    simp [t_up] <;> rfl
  by_cases c6 : q = n0 + 6
  · subst c6
    simp [t_up]
  simp [t_up, c0, c1, c2, c3, c4, c5, c6]
end XIN
