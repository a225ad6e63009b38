/-! ===== the model's object and its arrays, in one place of the heap ===== -/
/-- m: its address; fi: its ints by field; ar: its arrays by field; g: the rest of the heap -/
def hM (m : Nat) (fi : Nat → Int) (ar : Nat → Nat → Int) (g : tAH) : tAH := fun q =>
  if q = m then some (true, 1, .inl [.ref (m+1), .ref (m+2), .ref (m+3), .ref (m+4), .ref (m+5), .ref (m+6), .int (iI (fi 6)), .int (iI (fi 7)), .ref (m+7), .ref (m+8), .ref (m+9), .ref (m+10), .ref (m+11), .int (iI (fi 13)), .int (iI (fi 14)), .int (iI (fi 15)), .int (iI (fi 16)), .int (iI (fi 17)), .int (iI (fi 18)), .int (iI (fi 19)), .int (iI (fi 20)), .int (iI (fi 21)), .int (iI (fi 22)), .int (iI (fi 23)), .int (iI (fi 24)), .int (iI (fi 25)), .int (iI (fi 26)), .int (iI (fi 27))])
  else if q = m + 1 then some (true, 0, .inr (417, .inl (fun j => iI (ar 0 j))))
  else if q = m + 2 then some (true, 0, .inr (417, .inl (fun j => iI (ar 1 j))))
  else if q = m + 3 then some (true, 0, .inr (3336, .inl (fun j => iI (ar 2 j))))
  else if q = m + 4 then some (true, 0, .inr (834, .inl (fun j => iI (ar 3 j))))
  else if q = m + 5 then some (true, 0, .inr (417, .inl (fun j => iI (ar 4 j))))
  else if q = m + 6 then some (true, 1, .inr (2, .inl (fun j => iI (ar 5 j))))
  else if q = m + 7 then some (true, 0, .inr (600, .inl (fun j => iI (ar 8 j))))
  else if q = m + 8 then some (true, 0, .inr (100, .inl (fun j => iI (ar 9 j))))
  else if q = m + 9 then some (true, 0, .inr (4, .inl (fun j => iI (ar 10 j))))
  else if q = m + 10 then some (true, 0, .inr (4, .inl (fun j => iI (ar 11 j))))
  else if q = m + 11 then some (true, 0, .inr (64, .inl (fun j => iI (ar 12 j))))
  else g q
/-- one int field set -/
def fU (f : Nat → Int) (k : Nat) (v : Int) : Nat → Int := fun j => if j = k then v else f j
/-- one element of one array set -/
def aU (a : Nat → Nat → Int) (k j : Nat) (v : Int) : Nat → Nat → Int := fun k' => if k' = k then fU (a k') j v else a k'
theorem fU_s {f : Nat → Int} {k : Nat} {v : Int} : fU f k v k = v := if_pos rfl
theorem fU_n {f : Nat → Int} {k j : Nat} {v : Int} (h : j ≠ k) : fU f k v j = f j := if_neg h
theorem fU_fU {f : Nat → Int} {k : Nat} {v w : Int} : fU (fU f k v) k w = fU f k w := by
  funext j
  unfold fU
  by_cases h : j = k <;> simp [h]
theorem aU_s {a : Nat → Nat → Int} {k j : Nat} {v : Int} : aU a k j v k = fU (a k) j v := if_pos rfl
theorem aU_n {a : Nat → Nat → Int} {k k' j : Nat} {v : Int} (h : k' ≠ k) : aU a k j v k' = a k' := if_neg h
theorem mUpd {f : Nat → Int} {k : Nat} {v : Int} : upd (fun j => iI (f j)) k (t_nar 0 (iI v)) = fun j => iI (fU f k v j) := by
  funext j
  unfold upd fU t_nar
  by_cases h : j = k <;> simp [h]
section HM
variable {m : Nat} {fi : Nat → Int} {ar : Nat → Nat → Int} {g : tAH}
theorem hM_0 : hM m fi ar g m = some (true, 1, .inl [.ref (m+1), .ref (m+2), .ref (m+3), .ref (m+4), .ref (m+5), .ref (m+6), .int (iI (fi 6)), .int (iI (fi 7)), .ref (m+7), .ref (m+8), .ref (m+9), .ref (m+10), .ref (m+11), .int (iI (fi 13)), .int (iI (fi 14)), .int (iI (fi 15)), .int (iI (fi 16)), .int (iI (fi 17)), .int (iI (fi 18)), .int (iI (fi 19)), .int (iI (fi 20)), .int (iI (fi 21)), .int (iI (fi 22)), .int (iI (fi 23)), .int (iI (fi 24)), .int (iI (fi 25)), .int (iI (fi 26)), .int (iI (fi 27))]) := if_pos rfl
theorem hM_1 : hM m fi ar g (m+1) = some (true, 0, .inr (417, .inl (fun j => iI (ar 0 j)))) := by simp [hM]
theorem hM_2 : hM m fi ar g (m+2) = some (true, 0, .inr (417, .inl (fun j => iI (ar 1 j)))) := by simp [hM]
theorem hM_3 : hM m fi ar g (m+3) = some (true, 0, .inr (3336, .inl (fun j => iI (ar 2 j)))) := by simp [hM]
theorem hM_4 : hM m fi ar g (m+4) = some (true, 0, .inr (834, .inl (fun j => iI (ar 3 j)))) := by simp [hM]
theorem hM_5 : hM m fi ar g (m+5) = some (true, 0, .inr (417, .inl (fun j => iI (ar 4 j)))) := by simp [hM]
theorem hM_6 : hM m fi ar g (m+6) = some (true, 1, .inr (2, .inl (fun j => iI (ar 5 j)))) := by simp [hM]
theorem hM_7 : hM m fi ar g (m+7) = some (true, 0, .inr (600, .inl (fun j => iI (ar 8 j)))) := by simp [hM]
theorem hM_8 : hM m fi ar g (m+8) = some (true, 0, .inr (100, .inl (fun j => iI (ar 9 j)))) := by simp [hM]
theorem hM_9 : hM m fi ar g (m+9) = some (true, 0, .inr (4, .inl (fun j => iI (ar 10 j)))) := by simp [hM]
theorem hM_10 : hM m fi ar g (m+10) = some (true, 0, .inr (4, .inl (fun j => iI (ar 11 j)))) := by simp [hM]
theorem hM_11 : hM m fi ar g (m+11) = some (true, 0, .inr (64, .inl (fun j => iI (ar 12 j)))) := by simp [hM]
theorem mK : t_kN (hM m fi ar g) (.ref m) 1 = some m := by simp [t_kN, hM_0]
theorem mgI6 : gfI (hM m fi ar g) (.ref m) 1 6 = some (iI (fi 6)) := gfI_at hM_0 rfl
theorem mgI7 : gfI (hM m fi ar g) (.ref m) 1 7 = some (iI (fi 7)) := gfI_at hM_0 rfl
theorem mgI13 : gfI (hM m fi ar g) (.ref m) 1 13 = some (iI (fi 13)) := gfI_at hM_0 rfl
theorem mgI14 : gfI (hM m fi ar g) (.ref m) 1 14 = some (iI (fi 14)) := gfI_at hM_0 rfl
theorem mgI15 : gfI (hM m fi ar g) (.ref m) 1 15 = some (iI (fi 15)) := gfI_at hM_0 rfl
theorem mgI16 : gfI (hM m fi ar g) (.ref m) 1 16 = some (iI (fi 16)) := gfI_at hM_0 rfl
theorem mgI17 : gfI (hM m fi ar g) (.ref m) 1 17 = some (iI (fi 17)) := gfI_at hM_0 rfl
theorem mgI18 : gfI (hM m fi ar g) (.ref m) 1 18 = some (iI (fi 18)) := gfI_at hM_0 rfl
theorem mgI19 : gfI (hM m fi ar g) (.ref m) 1 19 = some (iI (fi 19)) := gfI_at hM_0 rfl
theorem mgI20 : gfI (hM m fi ar g) (.ref m) 1 20 = some (iI (fi 20)) := gfI_at hM_0 rfl
theorem mgI21 : gfI (hM m fi ar g) (.ref m) 1 21 = some (iI (fi 21)) := gfI_at hM_0 rfl
theorem mgI22 : gfI (hM m fi ar g) (.ref m) 1 22 = some (iI (fi 22)) := gfI_at hM_0 rfl
theorem mgI23 : gfI (hM m fi ar g) (.ref m) 1 23 = some (iI (fi 23)) := gfI_at hM_0 rfl
theorem mgI24 : gfI (hM m fi ar g) (.ref m) 1 24 = some (iI (fi 24)) := gfI_at hM_0 rfl
theorem mgI25 : gfI (hM m fi ar g) (.ref m) 1 25 = some (iI (fi 25)) := gfI_at hM_0 rfl
theorem mgI26 : gfI (hM m fi ar g) (.ref m) 1 26 = some (iI (fi 26)) := gfI_at hM_0 rfl
theorem mgI27 : gfI (hM m fi ar g) (.ref m) 1 27 = some (iI (fi 27)) := gfI_at hM_0 rfl
theorem mgR0 : gfR (hM m fi ar g) (.ref m) 1 0 = some (some (m+1)) := gfR_at hM_0 rfl
theorem mgR1 : gfR (hM m fi ar g) (.ref m) 1 1 = some (some (m+2)) := gfR_at hM_0 rfl
theorem mgR2 : gfR (hM m fi ar g) (.ref m) 1 2 = some (some (m+3)) := gfR_at hM_0 rfl
theorem mgR3 : gfR (hM m fi ar g) (.ref m) 1 3 = some (some (m+4)) := gfR_at hM_0 rfl
theorem mgR4 : gfR (hM m fi ar g) (.ref m) 1 4 = some (some (m+5)) := gfR_at hM_0 rfl
theorem mgR5 : gfR (hM m fi ar g) (.ref m) 1 5 = some (some (m+6)) := gfR_at hM_0 rfl
theorem mgR8 : gfR (hM m fi ar g) (.ref m) 1 8 = some (some (m+7)) := gfR_at hM_0 rfl
theorem mgR9 : gfR (hM m fi ar g) (.ref m) 1 9 = some (some (m+8)) := gfR_at hM_0 rfl
theorem mgR10 : gfR (hM m fi ar g) (.ref m) 1 10 = some (some (m+9)) := gfR_at hM_0 rfl
theorem mgR11 : gfR (hM m fi ar g) (.ref m) 1 11 = some (some (m+10)) := gfR_at hM_0 rfl
theorem mgR12 : gfR (hM m fi ar g) (.ref m) 1 12 = some (some (m+11)) := gfR_at hM_0 rfl
theorem mpI6 {v : Int} : pfV (hM m fi ar g) (.ref m) 1 6 (.int (iI v)) = some (hM m (fU fi 6 v) ar g) := by
  rw [pf_at hM_0 (Nat.le_of_ble_eq_true rfl)]
  refine congrArg some (funext fun q => ?_)
  by_cases h : q = m
  · subst h; rw [t_up_s, hM_0]; rfl
  · rw [t_up_n h]; simp only [hM, if_neg h]
theorem mpI7 {v : Int} : pfV (hM m fi ar g) (.ref m) 1 7 (.int (iI v)) = some (hM m (fU fi 7 v) ar g) := by
  rw [pf_at hM_0 (Nat.le_of_ble_eq_true rfl)]
  refine congrArg some (funext fun q => ?_)
  by_cases h : q = m
  · subst h; rw [t_up_s, hM_0]; rfl
  · rw [t_up_n h]; simp only [hM, if_neg h]
theorem mpI13 {v : Int} : pfV (hM m fi ar g) (.ref m) 1 13 (.int (iI v)) = some (hM m (fU fi 13 v) ar g) := by
  rw [pf_at hM_0 (Nat.le_of_ble_eq_true rfl)]
  refine congrArg some (funext fun q => ?_)
  by_cases h : q = m
  · subst h; rw [t_up_s, hM_0]; rfl
  · rw [t_up_n h]; simp only [hM, if_neg h]
theorem mpI14 {v : Int} : pfV (hM m fi ar g) (.ref m) 1 14 (.int (iI v)) = some (hM m (fU fi 14 v) ar g) := by
  rw [pf_at hM_0 (Nat.le_of_ble_eq_true rfl)]
  refine congrArg some (funext fun q => ?_)
  by_cases h : q = m
  · subst h; rw [t_up_s, hM_0]; rfl
  · rw [t_up_n h]; simp only [hM, if_neg h]
theorem mpI15 {v : Int} : pfV (hM m fi ar g) (.ref m) 1 15 (.int (iI v)) = some (hM m (fU fi 15 v) ar g) := by
  rw [pf_at hM_0 (Nat.le_of_ble_eq_true rfl)]
  refine congrArg some (funext fun q => ?_)
  by_cases h : q = m
  · subst h; rw [t_up_s, hM_0]; rfl
  · rw [t_up_n h]; simp only [hM, if_neg h]
theorem mpI16 {v : Int} : pfV (hM m fi ar g) (.ref m) 1 16 (.int (iI v)) = some (hM m (fU fi 16 v) ar g) := by
  rw [pf_at hM_0 (Nat.le_of_ble_eq_true rfl)]
  refine congrArg some (funext fun q => ?_)
  by_cases h : q = m
  · subst h; rw [t_up_s, hM_0]; rfl
  · rw [t_up_n h]; simp only [hM, if_neg h]
theorem mpI17 {v : Int} : pfV (hM m fi ar g) (.ref m) 1 17 (.int (iI v)) = some (hM m (fU fi 17 v) ar g) := by
  rw [pf_at hM_0 (Nat.le_of_ble_eq_true rfl)]
  refine congrArg some (funext fun q => ?_)
  by_cases h : q = m
  · subst h; rw [t_up_s, hM_0]; rfl
  · rw [t_up_n h]; simp only [hM, if_neg h]
theorem mpI18 {v : Int} : pfV (hM m fi ar g) (.ref m) 1 18 (.int (iI v)) = some (hM m (fU fi 18 v) ar g) := by
  rw [pf_at hM_0 (Nat.le_of_ble_eq_true rfl)]
  refine congrArg some (funext fun q => ?_)
  by_cases h : q = m
  · subst h; rw [t_up_s, hM_0]; rfl
  · rw [t_up_n h]; simp only [hM, if_neg h]
theorem mpI19 {v : Int} : pfV (hM m fi ar g) (.ref m) 1 19 (.int (iI v)) = some (hM m (fU fi 19 v) ar g) := by
  rw [pf_at hM_0 (Nat.le_of_ble_eq_true rfl)]
  refine congrArg some (funext fun q => ?_)
  by_cases h : q = m
  · subst h; rw [t_up_s, hM_0]; rfl
  · rw [t_up_n h]; simp only [hM, if_neg h]
theorem mpI20 {v : Int} : pfV (hM m fi ar g) (.ref m) 1 20 (.int (iI v)) = some (hM m (fU fi 20 v) ar g) := by
  rw [pf_at hM_0 (Nat.le_of_ble_eq_true rfl)]
  refine congrArg some (funext fun q => ?_)
  by_cases h : q = m
  · subst h; rw [t_up_s, hM_0]; rfl
  · rw [t_up_n h]; simp only [hM, if_neg h]
theorem mpI21 {v : Int} : pfV (hM m fi ar g) (.ref m) 1 21 (.int (iI v)) = some (hM m (fU fi 21 v) ar g) := by
  rw [pf_at hM_0 (Nat.le_of_ble_eq_true rfl)]
  refine congrArg some (funext fun q => ?_)
  by_cases h : q = m
  · subst h; rw [t_up_s, hM_0]; rfl
  · rw [t_up_n h]; simp only [hM, if_neg h]
theorem mpI22 {v : Int} : pfV (hM m fi ar g) (.ref m) 1 22 (.int (iI v)) = some (hM m (fU fi 22 v) ar g) := by
  rw [pf_at hM_0 (Nat.le_of_ble_eq_true rfl)]
  refine congrArg some (funext fun q => ?_)
  by_cases h : q = m
  · subst h; rw [t_up_s, hM_0]; rfl
  · rw [t_up_n h]; simp only [hM, if_neg h]
theorem mpI23 {v : Int} : pfV (hM m fi ar g) (.ref m) 1 23 (.int (iI v)) = some (hM m (fU fi 23 v) ar g) := by
  rw [pf_at hM_0 (Nat.le_of_ble_eq_true rfl)]
  refine congrArg some (funext fun q => ?_)
  by_cases h : q = m
  · subst h; rw [t_up_s, hM_0]; rfl
  · rw [t_up_n h]; simp only [hM, if_neg h]
theorem mpI24 {v : Int} : pfV (hM m fi ar g) (.ref m) 1 24 (.int (iI v)) = some (hM m (fU fi 24 v) ar g) := by
  rw [pf_at hM_0 (Nat.le_of_ble_eq_true rfl)]
  refine congrArg some (funext fun q => ?_)
  by_cases h : q = m
  · subst h; rw [t_up_s, hM_0]; rfl
  · rw [t_up_n h]; simp only [hM, if_neg h]
theorem mpI25 {v : Int} : pfV (hM m fi ar g) (.ref m) 1 25 (.int (iI v)) = some (hM m (fU fi 25 v) ar g) := by
  rw [pf_at hM_0 (Nat.le_of_ble_eq_true rfl)]
  refine congrArg some (funext fun q => ?_)
  by_cases h : q = m
  · subst h; rw [t_up_s, hM_0]; rfl
  · rw [t_up_n h]; simp only [hM, if_neg h]
theorem mpI26 {v : Int} : pfV (hM m fi ar g) (.ref m) 1 26 (.int (iI v)) = some (hM m (fU fi 26 v) ar g) := by
  rw [pf_at hM_0 (Nat.le_of_ble_eq_true rfl)]
  refine congrArg some (funext fun q => ?_)
  by_cases h : q = m
  · subst h; rw [t_up_s, hM_0]; rfl
  · rw [t_up_n h]; simp only [hM, if_neg h]
theorem mpI27 {v : Int} : pfV (hM m fi ar g) (.ref m) 1 27 (.int (iI v)) = some (hM m (fU fi 27 v) ar g) := by
  rw [pf_at hM_0 (Nat.le_of_ble_eq_true rfl)]
  refine congrArg some (funext fun q => ?_)
  by_cases h : q = m
  · subst h; rw [t_up_s, hM_0]; rfl
  · rw [t_up_n h]; simp only [hM, if_neg h]
theorem mld0 {z : Int} (h0 : 0 ≤ z) (h1 : z < 417) : ldI (hM m fi ar g) (.ref (m+1)) (iI z) 0 0 = some (iI (ar 0 z.toNat)) := ldI_at hM_1 (by decide) h0 h1 (by decide)
theorem mld1 {z : Int} (h0 : 0 ≤ z) (h1 : z < 417) : ldI (hM m fi ar g) (.ref (m+2)) (iI z) 0 0 = some (iI (ar 1 z.toNat)) := ldI_at hM_2 (by decide) h0 h1 (by decide)
theorem mld2 {z : Int} (h0 : 0 ≤ z) (h1 : z < 3336) : ldI (hM m fi ar g) (.ref (m+3)) (iI z) 0 0 = some (iI (ar 2 z.toNat)) := ldI_at hM_3 (by decide) h0 h1 (by decide)
theorem mld3 {z : Int} (h0 : 0 ≤ z) (h1 : z < 834) : ldI (hM m fi ar g) (.ref (m+4)) (iI z) 0 0 = some (iI (ar 3 z.toNat)) := ldI_at hM_4 (by decide) h0 h1 (by decide)
theorem mld4 {z : Int} (h0 : 0 ≤ z) (h1 : z < 417) : ldI (hM m fi ar g) (.ref (m+5)) (iI z) 0 0 = some (iI (ar 4 z.toNat)) := ldI_at hM_5 (by decide) h0 h1 (by decide)
theorem mld5 {z : Int} (h0 : 0 ≤ z) (h1 : z < 2) : ldI (hM m fi ar g) (.ref (m+6)) (iI z) 1 2 = some (iI (ar 5 z.toNat)) := ldI_at hM_6 (by decide) h0 h1 (by decide)
theorem mld8 {z : Int} (h0 : 0 ≤ z) (h1 : z < 600) : ldI (hM m fi ar g) (.ref (m+7)) (iI z) 0 0 = some (iI (ar 8 z.toNat)) := ldI_at hM_7 (by decide) h0 h1 (by decide)
theorem mld9 {z : Int} (h0 : 0 ≤ z) (h1 : z < 100) : ldI (hM m fi ar g) (.ref (m+8)) (iI z) 0 0 = some (iI (ar 9 z.toNat)) := ldI_at hM_8 (by decide) h0 h1 (by decide)
theorem mld10 {z : Int} (h0 : 0 ≤ z) (h1 : z < 4) : ldI (hM m fi ar g) (.ref (m+9)) (iI z) 0 0 = some (iI (ar 10 z.toNat)) := ldI_at hM_9 (by decide) h0 h1 (by decide)
theorem mld11 {z : Int} (h0 : 0 ≤ z) (h1 : z < 4) : ldI (hM m fi ar g) (.ref (m+10)) (iI z) 0 0 = some (iI (ar 11 z.toNat)) := ldI_at hM_10 (by decide) h0 h1 (by decide)
theorem mld12 {z : Int} (h0 : 0 ≤ z) (h1 : z < 64) : ldI (hM m fi ar g) (.ref (m+11)) (iI z) 0 0 = some (iI (ar 12 z.toNat)) := ldI_at hM_11 (by decide) h0 h1 (by decide)
theorem mst0 {z v : Int} (h0 : 0 ≤ z) (h1 : z < 417) : stI (hM m fi ar g) (.ref (m+1)) (iI z) 0 0 (iI v) = some (hM m fi (aU ar 0 z.toNat v) g) := by
  rw [stI_at hM_1 (by decide) h0 h1 (by decide)]
  refine congrArg some (funext fun q => ?_)
  by_cases h : q = m + 1
  · subst h
    rw [t_up_s, hM_1, aU_s, mUpd]
  · rw [t_up_n h]
    simp only [hM, if_neg h, aU, show ((1 : Nat) = 0) = False by decide, show ((2 : Nat) = 0) = False by decide, show ((3 : Nat) = 0) = False by decide, show ((4 : Nat) = 0) = False by decide, show ((5 : Nat) = 0) = False by decide, show ((8 : Nat) = 0) = False by decide, show ((9 : Nat) = 0) = False by decide, show ((10 : Nat) = 0) = False by decide, show ((11 : Nat) = 0) = False by decide, show ((12 : Nat) = 0) = False by decide, if_false]
theorem mst1 {z v : Int} (h0 : 0 ≤ z) (h1 : z < 417) : stI (hM m fi ar g) (.ref (m+2)) (iI z) 0 0 (iI v) = some (hM m fi (aU ar 1 z.toNat v) g) := by
  rw [stI_at hM_2 (by decide) h0 h1 (by decide)]
  refine congrArg some (funext fun q => ?_)
  by_cases h : q = m + 2
  · subst h
    rw [t_up_s, hM_2, aU_s, mUpd]
  · rw [t_up_n h]
    simp only [hM, if_neg h, aU, show ((0 : Nat) = 1) = False by decide, show ((2 : Nat) = 1) = False by decide, show ((3 : Nat) = 1) = False by decide, show ((4 : Nat) = 1) = False by decide, show ((5 : Nat) = 1) = False by decide, show ((8 : Nat) = 1) = False by decide, show ((9 : Nat) = 1) = False by decide, show ((10 : Nat) = 1) = False by decide, show ((11 : Nat) = 1) = False by decide, show ((12 : Nat) = 1) = False by decide, if_false]
theorem mst2 {z v : Int} (h0 : 0 ≤ z) (h1 : z < 3336) : stI (hM m fi ar g) (.ref (m+3)) (iI z) 0 0 (iI v) = some (hM m fi (aU ar 2 z.toNat v) g) := by
  rw [stI_at hM_3 (by decide) h0 h1 (by decide)]
  refine congrArg some (funext fun q => ?_)
  by_cases h : q = m + 3
  · subst h
    rw [t_up_s, hM_3, aU_s, mUpd]
  · rw [t_up_n h]
    simp only [hM, if_neg h, aU, show ((0 : Nat) = 2) = False by decide, show ((1 : Nat) = 2) = False by decide, show ((3 : Nat) = 2) = False by decide, show ((4 : Nat) = 2) = False by decide, show ((5 : Nat) = 2) = False by decide, show ((8 : Nat) = 2) = False by decide, show ((9 : Nat) = 2) = False by decide, show ((10 : Nat) = 2) = False by decide, show ((11 : Nat) = 2) = False by decide, show ((12 : Nat) = 2) = False by decide, if_false]
theorem mst3 {z v : Int} (h0 : 0 ≤ z) (h1 : z < 834) : stI (hM m fi ar g) (.ref (m+4)) (iI z) 0 0 (iI v) = some (hM m fi (aU ar 3 z.toNat v) g) := by
  rw [stI_at hM_4 (by decide) h0 h1 (by decide)]
  refine congrArg some (funext fun q => ?_)
  by_cases h : q = m + 4
  · subst h
    rw [t_up_s, hM_4, aU_s, mUpd]
  · rw [t_up_n h]
    simp only [hM, if_neg h, aU, show ((0 : Nat) = 3) = False by decide, show ((1 : Nat) = 3) = False by decide, show ((2 : Nat) = 3) = False by decide, show ((4 : Nat) = 3) = False by decide, show ((5 : Nat) = 3) = False by decide, show ((8 : Nat) = 3) = False by decide, show ((9 : Nat) = 3) = False by decide, show ((10 : Nat) = 3) = False by decide, show ((11 : Nat) = 3) = False by decide, show ((12 : Nat) = 3) = False by decide, if_false]
theorem mst4 {z v : Int} (h0 : 0 ≤ z) (h1 : z < 417) : stI (hM m fi ar g) (.ref (m+5)) (iI z) 0 0 (iI v) = some (hM m fi (aU ar 4 z.toNat v) g) := by
  rw [stI_at hM_5 (by decide) h0 h1 (by decide)]
  refine congrArg some (funext fun q => ?_)
  by_cases h : q = m + 5
  · subst h
    rw [t_up_s, hM_5, aU_s, mUpd]
  · rw [t_up_n h]
    simp only [hM, if_neg h, aU, show ((0 : Nat) = 4) = False by decide, show ((1 : Nat) = 4) = False by decide, show ((2 : Nat) = 4) = False by decide, show ((3 : Nat) = 4) = False by decide, show ((5 : Nat) = 4) = False by decide, show ((8 : Nat) = 4) = False by decide, show ((9 : Nat) = 4) = False by decide, show ((10 : Nat) = 4) = False by decide, show ((11 : Nat) = 4) = False by decide, show ((12 : Nat) = 4) = False by decide, if_false]
theorem mst8 {z v : Int} (h0 : 0 ≤ z) (h1 : z < 600) : stI (hM m fi ar g) (.ref (m+7)) (iI z) 0 0 (iI v) = some (hM m fi (aU ar 8 z.toNat v) g) := by
  rw [stI_at hM_7 (by decide) h0 h1 (by decide)]
  refine congrArg some (funext fun q => ?_)
  by_cases h : q = m + 7
  · subst h
    rw [t_up_s, hM_7, aU_s, mUpd]
  · rw [t_up_n h]
    simp only [hM, if_neg h, aU, show ((0 : Nat) = 8) = False by decide, show ((1 : Nat) = 8) = False by decide, show ((2 : Nat) = 8) = False by decide, show ((3 : Nat) = 8) = False by decide, show ((4 : Nat) = 8) = False by decide, show ((5 : Nat) = 8) = False by decide, show ((9 : Nat) = 8) = False by decide, show ((10 : Nat) = 8) = False by decide, show ((11 : Nat) = 8) = False by decide, show ((12 : Nat) = 8) = False by decide, if_false]
theorem mst9 {z v : Int} (h0 : 0 ≤ z) (h1 : z < 100) : stI (hM m fi ar g) (.ref (m+8)) (iI z) 0 0 (iI v) = some (hM m fi (aU ar 9 z.toNat v) g) := by
  rw [stI_at hM_8 (by decide) h0 h1 (by decide)]
  refine congrArg some (funext fun q => ?_)
  by_cases h : q = m + 8
  · subst h
    rw [t_up_s, hM_8, aU_s, mUpd]
  · rw [t_up_n h]
    simp only [hM, if_neg h, aU, show ((0 : Nat) = 9) = False by decide, show ((1 : Nat) = 9) = False by decide, show ((2 : Nat) = 9) = False by decide, show ((3 : Nat) = 9) = False by decide, show ((4 : Nat) = 9) = False by decide, show ((5 : Nat) = 9) = False by decide, show ((8 : Nat) = 9) = False by decide, show ((10 : Nat) = 9) = False by decide, show ((11 : Nat) = 9) = False by decide, show ((12 : Nat) = 9) = False by decide, if_false]
theorem mst10 {z v : Int} (h0 : 0 ≤ z) (h1 : z < 4) : stI (hM m fi ar g) (.ref (m+9)) (iI z) 0 0 (iI v) = some (hM m fi (aU ar 10 z.toNat v) g) := by
  rw [stI_at hM_9 (by decide) h0 h1 (by decide)]
  refine congrArg some (funext fun q => ?_)
  by_cases h : q = m + 9
  · subst h
    rw [t_up_s, hM_9, aU_s, mUpd]
  · rw [t_up_n h]
    simp only [hM, if_neg h, aU, show ((0 : Nat) = 10) = False by decide, show ((1 : Nat) = 10) = False by decide, show ((2 : Nat) = 10) = False by decide, show ((3 : Nat) = 10) = False by decide, show ((4 : Nat) = 10) = False by decide, show ((5 : Nat) = 10) = False by decide, show ((8 : Nat) = 10) = False by decide, show ((9 : Nat) = 10) = False by decide, show ((11 : Nat) = 10) = False by decide, show ((12 : Nat) = 10) = False by decide, if_false]
theorem mst11 {z v : Int} (h0 : 0 ≤ z) (h1 : z < 4) : stI (hM m fi ar g) (.ref (m+10)) (iI z) 0 0 (iI v) = some (hM m fi (aU ar 11 z.toNat v) g) := by
  rw [stI_at hM_10 (by decide) h0 h1 (by decide)]
  refine congrArg some (funext fun q => ?_)
  by_cases h : q = m + 10
  · subst h
    rw [t_up_s, hM_10, aU_s, mUpd]
  · rw [t_up_n h]
    simp only [hM, if_neg h, aU, show ((0 : Nat) = 11) = False by decide, show ((1 : Nat) = 11) = False by decide, show ((2 : Nat) = 11) = False by decide, show ((3 : Nat) = 11) = False by decide, show ((4 : Nat) = 11) = False by decide, show ((5 : Nat) = 11) = False by decide, show ((8 : Nat) = 11) = False by decide, show ((9 : Nat) = 11) = False by decide, show ((10 : Nat) = 11) = False by decide, show ((12 : Nat) = 11) = False by decide, if_false]
theorem mst12 {z v : Int} (h0 : 0 ≤ z) (h1 : z < 64) : stI (hM m fi ar g) (.ref (m+11)) (iI z) 0 0 (iI v) = some (hM m fi (aU ar 12 z.toNat v) g) := by
  rw [stI_at hM_11 (by decide) h0 h1 (by decide)]
  refine congrArg some (funext fun q => ?_)
  by_cases h : q = m + 11
  · subst h
    rw [t_up_s, hM_11, aU_s, mUpd]
  · rw [t_up_n h]
    simp only [hM, if_neg h, aU, show ((0 : Nat) = 12) = False by decide, show ((1 : Nat) = 12) = False by decide, show ((2 : Nat) = 12) = False by decide, show ((3 : Nat) = 12) = False by decide, show ((4 : Nat) = 12) = False by decide, show ((5 : Nat) = 12) = False by decide, show ((8 : Nat) = 12) = False by decide, show ((9 : Nat) = 12) = False by decide, show ((10 : Nat) = 12) = False by decide, show ((11 : Nat) = 12) = False by decide, if_false]
end HM
