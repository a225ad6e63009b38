/-! ===== the model made ===== -/
/-- its ints and arrays at first -/
def f0M : Nat → Int := fun j => if j = 16 then -1 else 0
def a0M : Nat → Nat → Int := fun _ _ => 0
section MIN
variable {G : tG} {hs : tHS}
theorem m_init0 : t_Ev (t_pg G) t_hd Y_X5_init 0 ([some (.ref hs.2.1)], [], (t_al hs (true, 1, .inl [.null, .null, .null, .null, .null, .null, .int (iI 0), .int (iI 0), .null, .null, .null, .null, .null, .int (iI 0), .int (iI 0), .int (iI 0), .int (iI 0), .int (iI 0), .int (iI 0), .int (iI 0), .int (iI 0), .int (iI 0), .int (iI 0), .int (iI 0), .int (iI 0), .int (iI 0), .int (iI 0), .int (iI 0)]) 28)) = bndV (t_Ev (t_pg G) t_hd Y_X5_lays 0 ([some (.ref hs.2.1), some (.ref (G.1 53)), none], [], (hM hs.2.1 f0M a0M hs.1, hs.2.1 + 12, hs.2.2 + 6223))) (fun hs_14 => some (.inl none, hs_14)) tX := by
  have last : ∀ (h : tAH) (z : Nat × Nat), h = hM hs.2.1 f0M a0M hs.1 → z = (hs.2.1 + 12, hs.2.2 + 6223) → ((t_kN h (.ref hs.2.1) 1).bind fun a_13 => bndV (t_Ev (t_pg G) t_hd Y_X5_lays 0 ([some (.ref a_13), some (.ref (G.1 53)), none], [], (h, z))) (fun hs_14 => some (.inl none, hs_14)) tX) = bndV (t_Ev (t_pg G) t_hd Y_X5_lays 0 ([some (.ref hs.2.1), some (.ref (G.1 53)), none], [], (hM hs.2.1 f0M a0M hs.1, hs.2.1 + 12, hs.2.2 + 6223))) (fun hs_14 => some (.inl none, hs_14)) tX := by
    rintro h z rfl rfl
    rw [mK, Option.bind_some]
  obtain ⟨h0, n0, z0⟩ := hs
  dsimp only at last ⊢
  rw [b_X5_init_0]
  simp only [t_al]
  rw [pf_at ((t_up_n (show n0 ≠ n0 + 1 by omega)).trans t_up_s) (Nat.le_of_ble_eq_true rfl), Option.bind_some]
  rw [pf_at ((t_up_n (show n0 ≠ n0 + 1 + 1 by omega)).trans t_up_s) (Nat.le_of_ble_eq_true rfl), Option.bind_some]
  rw [pf_at ((t_up_n (show n0 ≠ n0 + 1 + 1 + 1 by omega)).trans t_up_s) (Nat.le_of_ble_eq_true rfl), Option.bind_some]
  rw [pf_at ((t_up_n (show n0 ≠ n0 + 1 + 1 + 1 + 1 by omega)).trans t_up_s) (Nat.le_of_ble_eq_true rfl), Option.bind_some]
  rw [pf_at ((t_up_n (show n0 ≠ n0 + 1 + 1 + 1 + 1 + 1 by omega)).trans t_up_s) (Nat.le_of_ble_eq_true rfl), Option.bind_some]
  rw [pf_at ((t_up_n (show n0 ≠ n0 + 1 + 1 + 1 + 1 + 1 + 1 by omega)).trans t_up_s) (Nat.le_of_ble_eq_true rfl), Option.bind_some]
  rw [pf_at ((t_up_n (show n0 ≠ n0 + 1 + 1 + 1 + 1 + 1 + 1 + 1 by omega)).trans t_up_s) (Nat.le_of_ble_eq_true rfl), Option.bind_some]
  rw [pf_at ((t_up_n (show n0 ≠ n0 + 1 + 1 + 1 + 1 + 1 + 1 + 1 + 1 by omega)).trans t_up_s) (Nat.le_of_ble_eq_true rfl), Option.bind_some]
  rw [pf_at ((t_up_n (show n0 ≠ n0 + 1 + 1 + 1 + 1 + 1 + 1 + 1 + 1 + 1 by omega)).trans t_up_s) (Nat.le_of_ble_eq_true rfl), Option.bind_some]
  rw [pf_at ((t_up_n (show n0 ≠ n0 + 1 + 1 + 1 + 1 + 1 + 1 + 1 + 1 + 1 + 1 by omega)).trans t_up_s) (Nat.le_of_ble_eq_true rfl), Option.bind_some]
  rw [pf_at ((t_up_n (show n0 ≠ n0 + 1 + 1 + 1 + 1 + 1 + 1 + 1 + 1 + 1 + 1 + 1 by omega)).trans t_up_s) (Nat.le_of_ble_eq_true rfl), Option.bind_some]
  rw [pf_at t_up_s (Nat.le_of_ble_eq_true rfl), Option.bind_some]
  refine last _ _ (funext fun q => ?_) rfl
  simp only [List.set]
  unfold hM
  by_cases c0 : q = n0
  · subst c0
    rw [t_up_s, if_pos rfl]
    rfl
  rw [t_up_n c0, if_neg c0]
  by_cases c1 : q = n0 + 1
  · subst c1
    simp [t_up] <;> rfl
  by_cases c2 : q = n0 + 2
  · subst c2
    simp [t_up] <;> rfl
  by_cases c3 : q = n0 + 3
  · subst c3
    simp [t_up] <;> rfl
  by_cases c4 : q = n0 + 4
  · subst c4
    simp [t_up] <;> rfl
  by_cases c5 : q = n0 + 5
  · subst c5
    simp [t_up] <;> rfl
  by_cases c6 : q = n0 + 6
  · subst c6
    simp [t_up] <;> rfl
  by_cases c7 : q = n0 + 7
  · subst c7
    simp [t_up] <;> rfl
  by_cases c8 : q = n0 + 8
  · subst c8
    simp [t_up] <;> rfl
  by_cases c9 : q = n0 + 9
  · subst c9
    simp [t_up] <;> rfl
  by_cases c10 : q = n0 + 10
  · subst c10
    simp [t_up] <;> rfl
  by_cases c11 : q = n0 + 11
  · subst c11
    simp [t_up] <;> rfl
  simp [t_up, c0, c1, c2, c3, c4, c5, c6, c7, c8, c9, c10, c11]
end MIN
