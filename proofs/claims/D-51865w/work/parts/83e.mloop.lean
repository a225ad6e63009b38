/-! ===== the model: rows copied, remembered; a text played ===== -/
/-- one array put in place of another -/
def aS (a : Nat → Nat → Int) (k : Nat) (F : Nat → Int) : Nat → Nat → Int := fun k' => if k' = k then F else a k'
theorem aS_s {a : Nat → Nat → Int} {k : Nat} {F : Nat → Int} : aS a k F k = F := if_pos rfl
theorem aS_n {a : Nat → Nat → Int} {k k' : Nat} {F : Nat → Int} (h : k' ≠ k) : aS a k F k' = a k' := if_neg h
theorem Sc.aS {I A : List Nat} {f0 f1 : Nat → Int} {a0 a1 : Nat → Nat → Int} {k : Nat} {F : Nat → Int} (h : Sc I A f0 a0 f1 a1) (hk : k ∈ A) : Sc I A f0 a0 f1 (aS a1 k F) := ⟨h.1, fun j hj => (aS_n fun e => hj (by rw [e]; exact hk)).trans (h.2 j hj)⟩
theorem iI_cpy {f g : Nat → Int} {i j n : Nat} : va_cpy (fun q => iI (f q)) (fun q => iI (g q)) i j n = fun q => iI (va_cpy f g i j n q) := by
  funext q
  unfold va_cpy
  split <;> rfl
/-- the five rows of states: where they lie, how long they are -/
def rwN (k : Nat) : Nat := if k = 2 then 3336 else if k = 3 then 834 else 417
section CP
variable {G : tG} {m : Nat} {fi : Nat → Int} {ar : Nat → Nat → Int} {g : tAH} {z : Nat × Nat} {D : Nat → Prop}
theorem hM_r {k : Nat} (hk : k < 5) : hM m fi ar g (m + 1 + k) = some (true, 0, .inr (rwN k, .inl (fun j => iI (ar k j)))) := by
  match k, hk with
  | 0, _ => exact hM_1
  | 1, _ => exact hM_2
  | 2, _ => exact hM_3
  | 3, _ => exact hM_4
  | 4, _ => exact hM_5
theorem hM_rS {k : Nat} (hk : k < 5) {F : Nat → Int} : t_up (hM m fi ar g) (m + 1 + k) (true, 0, .inr (rwN k, .inl (fun j => iI (F j)))) = hM m fi (aS ar k F) g := by
  funext q
  by_cases c : q = m + 1 + k
  · subst c
    rw [t_up_s, hM_r hk, aS_s]
  · rw [t_up_n c]
    unfold hM
    match k, hk, c with
    | 0, _, c => simp only [aS, if_neg (show ¬ q = m + 1 from c)]; simp
    | 1, _, c => simp only [aS, if_neg (show ¬ q = m + 2 from c)]; simp
    | 2, _, c => simp only [aS, if_neg (show ¬ q = m + 3 from c)]; simp
    | 3, _, c => simp only [aS, if_neg (show ¬ q = m + 4 from c)]; simp
    | 4, _, c => simp only [aS, if_neg (show ¬ q = m + 5 from c)]; simp
theorem e_cpA {k1 k2 : Nat} (h1 : k1 < 5) (h2 : k2 < 5) {z1 z2 n : Int} (p1 : 0 ≤ z1) (p2 : 0 ≤ z2) (p3 : 0 ≤ n) (q1 : z1 + n ≤ rwN k1) (q2 : z2 + n ≤ rwN k2) : cpA (hM m fi ar g) (.ref (m + 1 + k1)) (iI z1) (.ref (m + 1 + k2)) (iI z2) (iI n) = some (hM m fi (aS ar k2 (va_cpy (ar k1) (ar k2) z1.toNat z2.toNat n.toNat)) g) := by
  have b : ∀ k, rwN k ≤ 3336 := fun k => by unfold rwN; split <;> (try split) <;> omega
  have b1 := b k1
  have b2 := b k2
  rw [cpA_at (hM_r h1) (hM_r h2) p1 p2 p3 q1 q2 (by omega) (by omega) (Or.inl rfl), iI_cpy, hM_rS h2]
theorem e_copy {k1 k2 : Nat} (h1 : k1 < 5) (h2 : k2 < 5) {z1 z2 : Int} (p1 : 0 ≤ z1) (p2 : 0 ≤ z2) (q1 : z1 + 417 ≤ rwN k1) (q2 : z2 + 417 ≤ rwN k2) : t_Ev (t_pg G) t_hd Y_X5_copy 0 ([some (.ref (m + 1 + k1)), some (.int (iI z1)), some (.ref (m + 1 + k2)), some (.int (iI z2))], [], (hM m fi ar g, z)) = rV (hM m fi (aS ar k2 (va_cpy (ar k1) (ar k2) z1.toNat z2.toNat 417)) g, z) := by
  rw [b_X5_copy_0]
  try dsimp only
  rw [e_cpA h1 h2 p1 p2 (by decide) q1 q2]
  rfl
/-- a row remembered: the rows kept, their number -/
def remC (c : Int) : Int := if c = 8 then 7 else c
def remK (kept : Nat → Int) (c : Int) (row : Nat → Int) : Nat → Int := va_cpy row (if c = 8 then va_cpy kept kept 417 0 2919 else kept) 0 (remC c * 417).toNat 417
theorem e_remember {k1 : Nat} (h1 : k1 < 5) (h12 : k1 ≠ 2) (hn : rwN k1 = 417) (hc : 0 ≤ fi 6 ∧ fi 6 ≤ 8) : t_Ev (t_pg G) t_hd Y_X5_remember 0 ([some (.ref m), some (.ref (m + 1 + k1))], [], (hM m fi ar g, z)) = rV (hM m (fU fi 6 (remC (fi 6) + 1)) (aS ar 2 (remK (ar 2) (fi 6) (ar k1))) g, z) := by
  have t : ∀ (f : Nat → Int) (a : Nat → Nat → Int), 0 ≤ f 6 ∧ f 6 ≤ 7 → t_Ev (t_pg G) t_hd Y_X5_remember 37 ([some (.ref m), some (.ref (m + 1 + k1))], [], (hM m f a g, z)) = rV (hM m (fU f 6 (f 6 + 1)) (aS a 2 (va_cpy (a k1) (a 2) 0 (f 6 * 417).toNat 417)) g, z) := fun f a hf => by
    have e := e_copy (G := G) (m := m) (fi := f) (ar := a) (g := g) (z := z) (k1 := k1) (k2 := 2) h1 (by decide) (z1 := 0) (z2 := f 6 * 417) (Int.le_refl 0) (by omega) (by rw [hn]; decide) (by show _ ≤ ((3336 : Nat) : Int); omega)
    rw [b_X5_remember_37]
    simp only [mK, mgI6, mgI7, mgI13, mgI14, mgI15, mgI16, mgI17, mgI18, mgI19, mgI20, mgI21, mgI22, mgI23, mgI24, mgI25, mgI26, mgI27, mgR0, mgR1, mgR2, mgR3, mgR4, mgR5, mgR8, mgR9, mgR10, mgR11, mgR12, Option.bind_some, va_rf_some, va_rf_none, bI_rI, bI_rB, bV_rV, bB_0, bB_1, iI_add, iI_sub, iI_mul, iI_neg, rI_of, rV_of, Int.reduceToNat, Int.neg_neg]
    rw [show m + 3 = m + 1 + 2 from rfl, e, bV_rV]
    simp only [mK, mgI6, mgI7, mgI13, mgI14, mgI15, mgI16, mgI17, mgI18, mgI19, mgI20, mgI21, mgI22, mgI23, mgI24, mgI25, mgI26, mgI27, mgR0, mgR1, mgR2, mgR3, mgR4, mgR5, mgR8, mgR9, mgR10, mgR11, mgR12, Option.bind_some, va_rf_some, va_rf_none, bI_rI, bI_rB, bV_rV, bB_0, bB_1, iI_add, iI_sub, iI_mul, iI_neg, rI_of, rV_of, Int.reduceToNat, Int.neg_neg, mpI6]
    (try rfl)
  rw [b_X5_remember_0]
  simp (disch := omega) only [mK, mgI6, mgI7, mgI13, mgI14, mgI15, mgI16, mgI17, mgI18, mgI19, mgI20, mgI21, mgI22, mgI23, mgI24, mgI25, mgI26, mgI27, mgR0, mgR1, mgR2, mgR3, mgR4, mgR5, mgR8, mgR9, mgR10, mgR11, mgR12, Option.bind_some, va_rf_some, va_rf_none, bI_rI, bI_rB, bV_rV, bB_0, bB_1, iI_add, iI_sub, iI_mul, iI_neg, rI_of, rV_of, Int.reduceToNat, Int.neg_neg, iI_inj]
  unfold remC remK remC
  by_cases c : fi 6 = 8
  · rw [if_pos c, if_pos c, if_pos c]
    rw [show m + 3 = m + 1 + 2 from rfl, e_cpA (by decide) (by decide) (by decide) (by decide) (by decide) (by decide) (by decide)]
    simp only [mK, mgI6, mgI7, mgI13, mgI14, mgI15, mgI16, mgI17, mgI18, mgI19, mgI20, mgI21, mgI22, mgI23, mgI24, mgI25, mgI26, mgI27, mgR0, mgR1, mgR2, mgR3, mgR4, mgR5, mgR8, mgR9, mgR10, mgR11, mgR12, Option.bind_some, va_rf_some, va_rf_none, bI_rI, bI_rB, bV_rV, bB_0, bB_1, iI_add, iI_sub, iI_mul, iI_neg, rI_of, rV_of, Int.reduceToNat, Int.neg_neg, mpI6]
    rw [t _ _ (by rw [fU_s]; omega), fU_s, fU_fU, aS_s, aS_n h12, c]
    refine congrArg (fun a => rV (hM m (fU fi 6 8) a g, z)) ?_
    funext k'
    unfold aS
    split <;> rfl
  · rw [if_neg c, if_neg c, if_neg c, t _ _ (by omega)]
end CP
