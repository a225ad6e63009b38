/-! ===== strings: length, letters ===== -/
section SR
variable {G : tG} {D : Nat → Prop} {hs : tHS}
theorem sh0 (x : Int32) : x >>> (iI 0 &&& 31) = x := by
  rw [show (iI 0 &&& 31 : Int32) = 0 from by decide, Int32.shiftRight_zero]
theorem c_sLen {q n : Nat} {f : Nat → Int} (e : ST D hs.1 q n f) : t_Ev (t_pg G) t_hd Y_J3_length 0 ([some (.ref q)], [], hs) = rI n hs := by
  obtain ⟨-, b, hv, hz, vq, e1, -, b', g, e2, -⟩ := e
  rw [b_J3_length_0, gfR_at (k := 0) (q := vq) e1 rfl, kN_at e1]
  simp only [Option.bind_some, va_rf_some]
  rw [aLen_at e2, Option.bind_some, b_J3_coder_0, gfI_at (k := 1) (x := iI 0) e1 rfl, Option.bind_some, if_pos (by decide), rI_of, bI_rI, sh0]
  rfl
theorem e_ckIx {x n : Int} {v : Option Value} (h0 : 0 ≤ x) (h1 : x < n) (h2 : n ≤ 2147483647) : t_Ev (t_pg G) t_hd Y_J5_checkIndex 0 ([some (.int (iI x)), some (.int (iI n)), v], [], hs) = rI x hs := by
  refine (st_il (p_J5_checkIndex_0 G) rfl).trans ((st_ifl (p_J5_checkIndex_1 G)).trans ?_)
  simp (disch := omega) only [iI_lt]
  rw [if_neg (by omega)]
  refine (st_il (p_J5_checkIndex_4 G) rfl).trans ((st_il (p_J5_checkIndex_5 G) rfl).trans ((st_cml (p_J5_checkIndex_6 G)).trans ?_))
  simp (disch := omega) only [iI_lt]
  rw [if_pos h1]
  exact (st_il (p_J5_checkIndex_16 G) rfl).trans (st_reti0 (p_J5_checkIndex_17 G))
theorem e_ckIx3 {x n : Int} (h0 : 0 ≤ x) (h1 : x < n) (h2 : n ≤ 2147483647) : t_Ev (t_pg G) t_hd Y_J3_checkIndex 0 ([some (.int (iI x)), some (.int (iI n))], [], hs) = rV hs := by
  rw [b_J3_checkIndex_0, e_ckIx h0 h1 h2, bI_rI]
  rfl
theorem nar255 {v : Int} (h0 : 0 ≤ v) (h1 : v ≤ 127) : (((iI v &&& (iI 255)).toUInt32 % 65536).toInt32) = iI v ∧ t_okR 3 (iI v) = true := by
  have : ∀ k : Nat, k < 128 → (((iI (k : Int) &&& (iI 255)).toUInt32 % 65536).toInt32) = iI (k : Int) ∧ t_okR 3 (iI (k : Int)) = true := by decide +kernel
  have := this v.toNat (by omega)
  rw [Int.toNat_of_nonneg h0] at this
  exact this
theorem c_sAt {q n : Nat} {f : Nat → Int} (e : ST D hs.1 q n f) (hn : n ≤ 2147483647) {j : Nat} (hj : j < n) (hf : 0 ≤ f j ∧ f j ≤ 127) : t_Ev (t_pg G) t_hd Y_J3_charAt 0 ([some (.ref q), some (.int (iI (j : Int)))], [], hs) = rI (f j) hs := by
  obtain ⟨-, b, hv, hz, vq, e1, -, b', g, e2, e3⟩ := e
  obtain ⟨w1, w2⟩ := nar255 hf.1 hf.2
  rw [b_J3_charAt_0, kN_at e1, Option.bind_some, b_J3_isLatin1_0, gfI_at (k := 1) (x := iI 0) e1 rfl, Option.bind_some, if_pos rfl]
  simp only [rI_of, bI_rI]
  rw [if_neg (by decide), gfR_at (k := 0) (q := vq) e1 rfl]
  simp only [Option.bind_some, va_rf_some]
  rw [b_J4_charAt_0, aLen_at e2, Option.bind_some, show Int32.ofNat n = iI (n : Int) from rfl, e_ckIx3 (by omega) (by omega) (by omega), bV_rV, ldI_at e2 (Or.inr rfl) (by omega) (by omega) hn, Option.bind_some, Int.toNat_natCast, e3 j hj, w1, if_pos w2, rI_of, bI_rI, if_pos w2]
  rfl
/-- the string at q has the letters of l -/
def WD (D : Nat → Prop) (h : tAH) (q : Nat) (l : List Int) : Prop := ST D h q l.length (fun j => l.getD j 0) ∧ ∀ v ∈ l, 0 ≤ v ∧ v ≤ 127
theorem WD.at {h : tAH} {q : Nat} {l : List Int} (w : WD D h q l) {j : Nat} : 0 ≤ l.getD j 0 ∧ l.getD j 0 ≤ 127 := by
  rw [List.getD_eq_getElem?_getD]
  cases hh : l[j]? with
  | none => exact ⟨by decide, by decide⟩
  | some v => exact w.2 v (List.mem_of_getElem? hh)
end SR
