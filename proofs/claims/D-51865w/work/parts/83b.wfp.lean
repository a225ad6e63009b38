/-! ===== straps and placements keep a row what it is ===== -/
theorem mayF_iff {s : tRow} {x y d : Int} (h : mayF s x y d = true) : s 3 ≠ 2 ∧ ofS s (s 2) 1 ≠ 0 ∧ stN s x y (bey0 x d) (bey1 y d) = false ∧ cI s x y ≠ 1 ∧ cI s (bey0 x d) (bey1 y d) ≠ 1 ∧ (pOf s x y = -1 ∨ pOf s x y ≠ pOf s (bey0 x d) (bey1 y d)) := by
  unfold mayF ovr at h
  simpa using h
theorem edI_inj {s : tRow} (d : Dm s) {x y e x' y' e' : Int} (he : e = 0 ∨ e = 1) (he' : e' = 0 ∨ e' = 1) (hi : inB s x y = true) (hi' : inB s x' y' = true) (h : edI x' y' e' = edI x y e) : x' = x ∧ y' = y ∧ e' = e := by
  have i1 := inB_7 d hi
  have i2 := inB_7 d hi'
  unfold edI at h
  rcases he with rfl | rfl <;> rcases he' with rfl | rfl <;> simp at h <;> omega
theorem Wf.kFas {s : tRow} (w : Wf s) {x y d : Int} (hd : d = 0 ∨ d = 1) (he : isEd s x y d = true) (hm : mayF s x y d = true) : Wf (fas s x y d) := by
  obtain ⟨m1, m2, m3, m4, m5, m6⟩ := mayF_iff hm
  have mv := w.py.mv
  have hin := isEd_in hd he
  have eb := edI_b w.bd.dm (e := d) hin.1
  have s1 := w.py.su (s 2) 1 (by omega) (by decide) (by decide)
  have ej : ∀ j, fas s x y d j = if j = 3 then 0 else if j = 2 then 1 - s 2 else if j = (5 + s 2 * 14 + 1).toNat then ofS s (s 2) 1 - 1 else if j = (edI x y d).toNat then 1 else s j := fun j => rfl
  have e0 : ∀ j, j ≠ 2 → j ≠ 3 → j ≠ (5 + s 2 * 14 + 1).toNat → j ≠ (edI x y d).toNat → fas s x y d j = s j := fun j a b c e => by
    rw [ej, if_neg b, if_neg a, if_neg c, if_neg e]
  have e2 : fas s x y d 2 = 1 - s 2 := rfl
  have e3 : fas s x y d 3 = 0 := rfl
  have g0 : fas s x y d 0 = s 0 := e0 0 (by decide) (by decide) (by omega) (by omega)
  have g1 : fas s x y d 1 = s 1 := e0 1 (by decide) (by decide) (by omega) (by omega)
  have g4 : fas s x y d 4 = s 4 := e0 4 (by decide) (by decide) (by omega) (by omega)
  have gc : ∀ j, 33 ≤ j → j < 97 → fas s x y d j = s j := fun j j1 j2 => e0 j (by omega) (by omega) (by omega) (by omega)
  have gp : ∀ j, 225 ≤ j → j < 417 → fas s x y d j = s j := fun j j1 j2 => e0 j (by omega) (by omega) (by omega) (by omega)
  have gl : ∀ p v : Int, (p = 0 ∨ p = 1) → 0 ≤ v → v ≤ 13 → ofS (fas s x y d) p v = if p = s 2 ∧ v = 1 then ofS s (s 2) 1 - 1 else ofS s p v := fun p v hp v0 v1 => by
    show fas s x y d (5 + p * 14 + v).toNat = _
    rw [ej, if_neg (by omega), if_neg (by omega)]
    by_cases c : p = s 2 ∧ v = 1
    · rw [if_pos c, if_pos (by rw [c.1, c.2])]
    · rw [if_neg c, if_neg (by omega), if_neg (by omega)]
      rfl
  refine ⟨w.bd.cg g0 g1 g4 gc gp, ?_, ?_, ?_, ?_⟩
  · refine ⟨fun j j1 j2 => ?_, fun x' y' e he' h2 h3 h4 => ?_⟩
    · rw [ej, if_neg (by omega), if_neg (by omega), if_neg (by omega)]
      split
      · decide
      · exact w.sp.st j j1 j2
    · rw [isEd_cg g0 g1] at h2
      have hi := isEd_in he' h2
      have i7 := inB_7 w.bd.dm hi.1
      have i8 := inB_7 w.bd.dm hi.2
      have eb' := edI_b w.bd.dm (e := e) hi.1
      rw [cI_cg gc i7.1 i7.2] at h4 ⊢
      rw [cI_cg gc i8.1 i8.2]
      unfold stB at h3
      have h3 := of_decide_eq_true h3
      rw [ej, if_neg (by omega), if_neg (by omega), if_neg (by omega)] at h3
      by_cases c : (edI x' y' e).toNat = (edI x y d).toNat
      · obtain ⟨rfl, rfl, rfl⟩ := edI_inj w.bd.dm hd he' hin.1 hi.1 (by omega)
        intro q
        rcases m6 with m6 | m6
        · unfold pOf at m6; rw [if_pos h4] at m6; omega
        · apply m6
          unfold pOf
          rw [← q]
      · rw [if_neg c] at h3
        exact w.sp.nx x' y' e he' h2 (by unfold stB; exact decide_eq_true h3) h4
  · refine ⟨by rw [e2]; omega, by rw [e3]; decide, fun p v hp w1 w2 => ?_, fun p hp => ?_, fun p v hp w1 w2 => ?_⟩
    · rw [gl p v hp (by omega) (by omega)]
      have := w.py.su p v hp w1 w2
      split
      · omega
      · exact this
    · rw [gl p 7 hp (by decide) (by decide), if_neg (by omega)]; exact w.py.nm p hp
    · rw [gl p v hp (by omega) (by omega), if_neg (by omega)]; exact w.py.le p v hp w1 w2
  · refine ⟨?_, ?_, ?_⟩
    · rw [gl 0 0 (Or.inl rfl) (by decide) (by decide), if_neg (by omega)]; exact w.sc.s0
    · rw [gl 1 0 (Or.inr rfl) (by decide) (by decide), if_neg (by omega)]; exact w.sc.s1
    · rw [gl 0 0 (Or.inl rfl) (by decide) (by decide), if_neg (by omega), gl 1 0 (Or.inr rfl) (by decide) (by decide), if_neg (by omega), ptN_cg g4 w.bd.np.2 gp]; exact w.sc.sum
  · exact (((w.rb.set (by decide)).set (by omega)).set (by omega)).set (by decide)
/-- a placement's cells differ -/
theorem cXY_ne0 : ∀ sh : Fin 5, ∀ r : Fin 4, ∀ j : Fin 4, ∀ k : Fin 4, j < k → ((k : Nat) < shN ((sh : Nat) : Int)) → ¬ (rqX ((r : Nat) : Int) (oX ((sh : Nat) : Int) ((j : Nat) : Int)) (oY ((sh : Nat) : Int) ((j : Nat) : Int)) = rqX ((r : Nat) : Int) (oX ((sh : Nat) : Int) ((k : Nat) : Int)) (oY ((sh : Nat) : Int) ((k : Nat) : Int)) ∧ rqY ((r : Nat) : Int) (oX ((sh : Nat) : Int) ((j : Nat) : Int)) (oY ((sh : Nat) : Int) ((j : Nat) : Int)) = rqY ((r : Nat) : Int) (oX ((sh : Nat) : Int) ((k : Nat) : Int)) (oY ((sh : Nat) : Int) ((k : Nat) : Int))) := by decide +kernel
theorem cXY_ne {sh r x y : Int} (h1 : 0 ≤ sh) (h2 : sh ≤ 4) (h3 : 0 ≤ r) (h4 : r ≤ 3) {j k : Nat} (hjk : j < k) (hk : k < shN sh) : ¬ (cX sh r x j = cX sh r x k ∧ cY sh r y j = cY sh r y k) := by
  have hb := (shN_b (sh := sh)).2
  have := cXY_ne0 ⟨sh.toNat, by omega⟩ ⟨r.toNat, by omega⟩ ⟨j, by omega⟩ ⟨k, by omega⟩ hjk (by show k < shN ((sh.toNat : Nat) : Int); rw [Int.toNat_of_nonneg h1]; exact hk)
  dsimp only at this
  rw [Int.toNat_of_nonneg h1, Int.toNat_of_nonneg h3] at this
  intro w
  apply this
  unfold cX cY at w
  exact ⟨by omega, by omega⟩
theorem setC_0 {s : tRow} {sh r x y v : Int} : setC s sh r x y v 0 = s := rfl
/-- the cells after n of them are set -/
theorem setC_at {s : tRow} {sh r x y v : Int} {n : Nat} (h : ∀ k, k < n → (0 ≤ cX sh r x k ∧ cX sh r x k ≤ 7) ∧ 0 ≤ cY sh r y k ∧ cY sh r y k ≤ 7) {a b : Int} (ha : 0 ≤ a ∧ a ≤ 7) (hb : 0 ≤ b ∧ b ≤ 7) : cI (setC s sh r x y v n) a b = if an (fun k => decide (cX sh r x k = a ∧ cY sh r y k = b)) n = true then v else cI s a b := by
  induction n with
  | zero => rfl
  | succ n ih =>
    have hn := h n (Nat.lt_succ_self n)
    have ih := ih fun k hk => h k (Nat.lt_succ_of_lt hk)
    unfold cI at ih ⊢
    rw [setC, an]
    by_cases c : cX sh r x n = a ∧ cY sh r y n = b
    · rw [decide_eq_true c, Bool.or_true, if_pos rfl, c.1, c.2, fU_s]
    · rw [decide_eq_false c, Bool.or_false, fU_n (by omega)]
      exact ih
theorem cvN_set {s : tRow} (d : Dm s) {a b v : Int} (hi : inB s a b = true) (hc : cI s a b < 2) (hv : 2 ≤ v) : cvN (fU s (33 + (8 * b + a)).toNat v) = cvN s + 1 := by
  have h := inB_iff.mp hi
  have i7 := inB_7 d hi
  have d0 := d.1
  have d1 := d.2
  unfold cvN
  rw [fU_n (by omega), fU_n (by omega)]
  have row : ∀ y : Nat, y < (s 1).toNat → y ≠ b.toNat → sm (fun x => bB (decide (2 ≤ cI (fU s (33 + (8 * b + a)).toNat v) x y))) (s 0).toNat = sm (fun x => bB (decide (2 ≤ cI s x y))) (s 0).toNat := fun y hy hn => sm_congr fun x hx => by
    unfold cI
    rw [fU_n (by omega)]
  rw [sm_upd (i := b.toNat) (by omega) row]
  have col : ∀ x : Nat, x < (s 0).toNat → x ≠ a.toNat → bB (decide (2 ≤ cI (fU s (33 + (8 * b + a)).toNat v) x b.toNat)) = bB (decide (2 ≤ cI s x b.toNat)) := fun x hx hn => by
    unfold cI
    rw [fU_n (by omega)]
  have := sm_upd (f := fun x : Nat => bB (decide (2 ≤ cI s x b.toNat))) (g := fun x : Nat => bB (decide (2 ≤ cI (fU s (33 + (8 * b + a)).toNat v) x b.toNat))) (i := a.toNat) (n := (s 0).toNat) (by omega) col
  rw [this]
  have e1 : bB (decide (2 ≤ cI (fU s (33 + (8 * b + a)).toNat v) (a.toNat : Int) (b.toNat : Int))) = 1 := by
    unfold cI
    rw [show (33 + (8 * (b.toNat : Int) + (a.toNat : Int))).toNat = (33 + (8 * b + a)).toNat by omega, fU_s, decide_eq_true hv]
    rfl
  have e2 : bB (decide (2 ≤ cI s (a.toNat : Int) (b.toNat : Int))) = 0 := by
    rw [Int.toNat_of_nonneg i7.1.1, Int.toNat_of_nonneg i7.2.1, decide_eq_false (by omega)]
    rfl
  rw [e1, e2]
  omega
theorem cvN_setC {s : tRow} (d : Dm s) {sh r x y v : Int} (h1 : 0 ≤ sh) (h2 : sh ≤ 4) (h3 : 0 ≤ r) (h4 : r ≤ 3) (hv : 2 ≤ v) (hm : mf s sh r x y = 0) : ∀ n, n ≤ shN sh → cvN (setC s sh r x y v n) = cvN s + n := by
  have hc := mf_in d hm
  intro n
  induction n with
  | zero => intro _; rw [setC_0]; omega
  | succ n ih =>
    intro hn
    have ih := ih (by omega)
    have hb : ∀ k, k < n → (0 ≤ cX sh r x k ∧ cX sh r x k ≤ 7) ∧ 0 ≤ cY sh r y k ∧ cY sh r y k ≤ 7 := fun k hk => (hc k (by omega)).2
    have hcn := hc n (by omega)
    have g0 : setC s sh r x y v n 0 = s 0 := setC_n hb (Or.inl (by decide))
    have g1 : setC s sh r x y v n 1 = s 1 := setC_n hb (Or.inl (by decide))
    have na : an (fun k => decide (cX sh r x k = cX sh r x n ∧ cY sh r y k = cY sh r y n)) n = false := an_false.mpr fun k hk => decide_eq_false (cXY_ne h1 h2 h3 h4 hk (by omega))
    rw [setC, cvN_set (by unfold Dm; rw [g0, g1]; exact d) (by rw [inB_cg g0 g1]; exact hcn.1.1) (by rw [setC_at hb hcn.2.1 hcn.2.2, na]; simpa using hcn.1.2.2) hv, ih]
    omega
theorem szN_ge {s : tRow} (h : 0 ≤ s 4) : 2 * s 4 ≤ szN s := by
  unfold szN
  have : ∀ n : Nat, 2 * (n : Int) ≤ sm (fun k => (shN (s (pcI k 0)) : Int)) n := by
    intro n
    induction n with
    | zero => exact Int.le_refl 0
    | succ n ih =>
      rw [sm]
      have := (shN_b (sh := s (pcI n 0))).1
      omega
  have := this (s 4).toNat
  omega
theorem cvN_le {s : tRow} (d : Dm s) : cvN s ≤ 64 := by
  have d0 := d.1
  have d1 := d.2
  unfold cvN
  have := sm_le (f := fun y : Nat => sm (fun x : Nat => bB (decide (2 ≤ cI s x y))) (s 0).toNat) (c := 8) (n := (s 1).toNat) fun y hy => by
    have := sm_le (f := fun x : Nat => bB (decide (2 ≤ cI s x y))) (c := 1) (n := (s 0).toNat) fun x hx => bB_le
    omega
  omega
theorem BdP.p31 {s : tRow} (b : BdP s) {sh r x y : Int} (h1 : 0 ≤ sh) (h2 : sh ≤ 4) (h3 : 0 ≤ r) (h4 : r ≤ 3) (hm : mf s sh r x y = 0) : s 4 ≤ 31 := by
  have hc := mf_in b.dm hm
  have hb : ∀ k, k < shN sh → (0 ≤ cX sh r x k ∧ cX sh r x k ≤ 7) ∧ 0 ≤ cY sh r y k ∧ cY sh r y k ≤ 7 := fun k hk => (hc k hk).2
  have e := cvN_setC b.dm h1 h2 h3 h4 (v := 2) (by decide) hm (shN sh) (Nat.le_refl _)
  have g0 : setC s sh r x y 2 (shN sh) 0 = s 0 := setC_n hb (Or.inl (by decide))
  have g1 : setC s sh r x y 2 (shN sh) 1 = s 1 := setC_n hb (Or.inl (by decide))
  have l := cvN_le (s := setC s sh r x y 2 (shN sh)) (by unfold Dm; rw [g0, g1]; exact b.dm)
  have z := szN_ge b.np.1
  have n2 := (shN_b (sh := sh)).1
  rw [e, b.cv] at l
  omega
theorem mayP_iff {s : tRow} {sh r x y : Int} (h : mayP s sh r x y = true) : s 3 ≠ 2 ∧ 0 < ofS s (s 2) (2 + sh) ∧ mf s sh r x y = 0 := by
  unfold mayP ovr at h
  simpa using h
