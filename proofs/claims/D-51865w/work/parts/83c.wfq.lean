theorem ptN_b {s : tRow} (b : BdP s) : 0 ≤ ptN s ∧ ptN s ≤ 2176 := by
  have hn := b.np
  unfold ptN
  have l := sm_ge (f := fun k : Nat => s (pcI k 5)) (n := (s 4).toNat) fun k hk => (b.pc k (by omega)).2.2.2.2.2.1
  have u := sm_le (f := fun k : Nat => s (pcI k 5)) (c := 68) (n := (s 4).toNat) fun k hk => (b.pc k (by omega)).2.2.2.2.2.2
  omega
theorem setC_rb {s : tRow} (h : RB s) {sh r x y v : Int} (hv : 0 ≤ v ∧ v ≤ 1000000) : ∀ n, RB (setC s sh r x y v n) := by
  intro n
  induction n with
  | zero => exact h
  | succ n ih => exact ih.set hv
theorem nei_edge {s : tRow} {x y d : Int} (hd : d = 0 ∨ d = 1) : nei x y (bey0 x d) (bey1 y d) = true ∧ stN s x y (bey0 x d) (bey1 y d) = stB s x y d ∧ nei (bey0 x d) (bey1 y d) x y = true ∧ stN s (bey0 x d) (bey1 y d) x y = stB s x y d := by
  unfold nei stN bey0 bey1
  rcases hd with rfl | rfl
  · rw [if_pos rfl, if_pos rfl, if_pos rfl, show min x (x + 1) = x by omega, show min y y = y by omega, show min (x + 1) x = x by omega]
    refine ⟨decide_eq_true ?_, rfl, decide_eq_true ?_, rfl⟩ <;> (unfold aI; split <;> split <;> omega)
  · rw [if_neg (by decide), if_neg (by decide), if_neg (by omega), if_neg (by omega), show min x x = x by omega, show min y (y + 1) = y by omega, show min (y + 1) y = y by omega]
    refine ⟨decide_eq_true ?_, rfl, decide_eq_true ?_, rfl⟩ <;> (unfold aI; split <;> split <;> omega)
theorem mf_crs {s : tRow} {sh r x y : Int} (h : mf s sh r x y = 0) : crs s sh r x y = false := by
  unfold mf at h
  cases c : crs s sh r x y with
  | false => rfl
  | true =>
    rw [c] at h
    split at h
    · omega
    · split at h
      · omega
      · split at h
        · omega
        · simp at h
theorem crs_no {s : tRow} {sh r x y : Int} (h : crs s sh r x y = false) {j k : Nat} (hj : j < shN sh) (hk : k < shN sh) (hjk : j ≠ k) (n1 : nei (cX sh r x j) (cY sh r y j) (cX sh r x k) (cY sh r y k) = true) (n2 : nei (cX sh r x k) (cY sh r y k) (cX sh r x j) (cY sh r y j) = true) : stN s (cX sh r x j) (cY sh r y j) (cX sh r x k) (cY sh r y k) = false ∨ stN s (cX sh r x k) (cY sh r y k) (cX sh r x j) (cY sh r y j) = false := by
  unfold crs at h
  rcases Nat.lt_or_gt_of_ne hjk with c | c
  · have := an_false.mp (an_false.mp h k hk) j c
    rw [n2, Bool.true_and] at this
    exact Or.inr this
  · have := an_false.mp (an_false.mp h j hj) k c
    rw [n1, Bool.true_and] at this
    exact Or.inl this
theorem Wf.kPlc {s : tRow} (w : Wf s) {sh r x y : Int} (h1 : 0 ≤ sh) (h2 : sh ≤ 4) (h3 : 0 ≤ r) (h4 : r ≤ 3) (hx : 0 ≤ x ∧ x < s 0) (hy : 0 ≤ y ∧ y < s 1) (hm : mayP s sh r x y = true) : Wf (plc s sh r x y) := by
  obtain ⟨m1, m2, m3⟩ := mayP_iff hm
  have p31 := w.bd.p31 h1 h2 h3 h4 m3
  have np := w.bd.np
  have mv := w.py.mv
  have d0 := w.bd.d0
  have d1 := w.bd.d1
  have pb := pts_b w.bd.dm (sh := sh) (r := r) (y := y)
  have s1 := w.py.su (s 2) (2 + sh) (by omega) (by omega) (by omega)
  have pn := ptN_b w.bd
  have hc := mf_in w.bd.dm m3
  have hb : ∀ k, k < shN sh → (0 ≤ cX sh r x k ∧ cX sh r x k ≤ 7) ∧ 0 ≤ cY sh r y k ∧ cY sh r y k ≤ 7 := fun k hk => (hc k hk).2
  obtain ⟨K, hK⟩ : ∃ K : Nat, (K : Int) = s 4 := ⟨(s 4).toNat, by omega⟩
  have ej : ∀ j, plc s sh r x y j = if j = 3 then 0 else if j = 2 then 1 - s 2 else if j = (5 + s 2 * 14 + (2 + sh)).toNat then ofS s (s 2) (2 + sh) - 1 else if j = (5 + s 2 * 14 + 0).toNat then ofS s (s 2) 0 + pts s sh r y else if j = 4 then s 4 + 1 else if j = (225 + s 4 * 6 + 5).toNat then pts s sh r y else if j = (225 + s 4 * 6 + 4).toNat then s 2 else if j = (225 + s 4 * 6 + 3).toNat then y else if j = (225 + s 4 * 6 + 2).toNat then x else if j = (225 + s 4 * 6 + 1).toNat then r else if j = (225 + s 4 * 6).toNat then sh else setC s sh r x y (2 + s 4) (shN sh) j := fun j => rfl
  obtain ⟨s', hs'⟩ : ∃ s', s' = plc s sh r x y := ⟨_, rfl⟩
  rw [← hs'] at ej ⊢
  obtain ⟨c, hcC⟩ : ∃ c, c = setC s sh r x y (2 + s 4) (shN sh) := ⟨_, rfl⟩
  have eo : ∀ j, j ≠ 2 → j ≠ 3 → j ≠ 4 → (j < 5 ∨ 33 ≤ j) → (j < 225 ∨ 225 + K * 6 + 6 ≤ j ∨ j < 225 + K * 6) → s' j = c j := fun j a2 a3 a4 a5 a6 => by
    rw [ej, if_neg a3, if_neg a2, if_neg (by omega), if_neg (by omega), if_neg a4, if_neg (by omega), if_neg (by omega), if_neg (by omega), if_neg (by omega), if_neg (by omega), if_neg (by omega), hcC]
  have co : ∀ j, (j < 33 ∨ 97 ≤ j) → c j = s j := fun j hj => by rw [hcC]; exact setC_n hb hj
  have g0 : s' 0 = s 0 := (eo 0 (by decide) (by decide) (by decide) (by omega) (by omega)).trans (co 0 (by decide))
  have g1 : s' 1 = s 1 := (eo 1 (by decide) (by decide) (by decide) (by omega) (by omega)).trans (co 1 (by decide))
  have g2 : s' 2 = 1 - s 2 := by rw [ej]; rfl
  have g3 : s' 3 = 0 := by rw [ej]; rfl
  have g4 : s' 4 = s 4 + 1 := by rw [ej, if_neg (by decide), if_neg (by decide), if_neg (by omega), if_neg (by omega), if_pos rfl]
  have gc : ∀ j, 33 ≤ j → j < 225 → s' j = c j := fun j j1 j2 => eo j (by omega) (by omega) (by omega) (by omega) (by omega)
  have gk : ∀ k i : Nat, (k : Int) < s 4 → i < 6 → s' (pcI k i) = s (pcI k i) := fun k i hk hi => (eo _ (by unfold pcI; omega) (by unfold pcI; omega) (by unfold pcI; omega) (by unfold pcI; omega) (by unfold pcI; omega)).trans (co _ (by unfold pcI; omega))
  have n5 : s' (pcI K 5) = pts s sh r y := by
    rw [ej, if_neg (by unfold pcI; omega), if_neg (by unfold pcI; omega), if_neg (by unfold pcI; omega), if_neg (by unfold pcI; omega), if_neg (by unfold pcI; omega), if_pos (by unfold pcI; omega)]
  have n4 : s' (pcI K 4) = s 2 := by
    rw [ej, if_neg (by unfold pcI; omega), if_neg (by unfold pcI; omega), if_neg (by unfold pcI; omega), if_neg (by unfold pcI; omega), if_neg (by unfold pcI; omega), if_neg (by unfold pcI; omega), if_pos (by unfold pcI; omega)]
  have n3 : s' (pcI K 3) = y := by
    rw [ej, if_neg (by unfold pcI; omega), if_neg (by unfold pcI; omega), if_neg (by unfold pcI; omega), if_neg (by unfold pcI; omega), if_neg (by unfold pcI; omega), if_neg (by unfold pcI; omega), if_neg (by unfold pcI; omega), if_pos (by unfold pcI; omega)]
  have n2 : s' (pcI K 2) = x := by
    rw [ej, if_neg (by unfold pcI; omega), if_neg (by unfold pcI; omega), if_neg (by unfold pcI; omega), if_neg (by unfold pcI; omega), if_neg (by unfold pcI; omega), if_neg (by unfold pcI; omega), if_neg (by unfold pcI; omega), if_neg (by unfold pcI; omega), if_pos (by unfold pcI; omega)]
  have n1 : s' (pcI K 1) = r := by
    rw [ej, if_neg (by unfold pcI; omega), if_neg (by unfold pcI; omega), if_neg (by unfold pcI; omega), if_neg (by unfold pcI; omega), if_neg (by unfold pcI; omega), if_neg (by unfold pcI; omega), if_neg (by unfold pcI; omega), if_neg (by unfold pcI; omega), if_neg (by unfold pcI; omega), if_pos (by unfold pcI; omega)]
  have n0 : s' (pcI K 0) = sh := by
    rw [ej, if_neg (by unfold pcI; omega), if_neg (by unfold pcI; omega), if_neg (by unfold pcI; omega), if_neg (by unfold pcI; omega), if_neg (by unfold pcI; omega), if_neg (by unfold pcI; omega), if_neg (by unfold pcI; omega), if_neg (by unfold pcI; omega), if_neg (by unfold pcI; omega), if_neg (by unfold pcI; omega), if_pos (by unfold pcI; omega)]
  have gl : ∀ p v : Int, (p = 0 ∨ p = 1) → 0 ≤ v → v ≤ 13 → ofS s' p v = if p = s 2 ∧ v = 2 + sh then ofS s (s 2) (2 + sh) - 1 else if p = s 2 ∧ v = 0 then ofS s (s 2) 0 + pts s sh r y else ofS s p v := fun p v hp v0 v1 => by
    show s' (5 + p * 14 + v).toNat = _
    rw [ej, if_neg (by omega), if_neg (by omega)]
    by_cases q : p = s 2 ∧ v = 2 + sh
    · rw [if_pos q, if_pos (by rw [q.1, q.2])]
    · rw [if_neg q, if_neg (by omega)]
      by_cases q2 : p = s 2 ∧ v = 0
      · rw [if_pos q2, if_pos (by rw [q2.1, q2.2])]
      · rw [if_neg q2, if_neg (by omega), if_neg (by omega), if_neg (by omega), if_neg (by omega), if_neg (by omega), if_neg (by omega), if_neg (by omega), if_neg (by omega), ← hcC, co _ (by omega)]
        rfl
  have cc : ∀ {a b : Int}, 0 ≤ a ∧ a ≤ 7 → 0 ≤ b ∧ b ≤ 7 → cI s' a b = if an (fun k => decide (cX sh r x k = a ∧ cY sh r y k = b)) (shN sh) = true then 2 + s 4 else cI s a b := fun {a b} ha hb' => by
    have e : cI s' a b = cI c a b := gc _ (by omega) (by omega)
    rw [e, hcC, setC_at hb ha hb']
  have cold : ∀ {a b : Int}, 0 ≤ a ∧ a ≤ 7 → 0 ≤ b ∧ b ≤ 7 → 2 ≤ cI s a b → cI s' a b = cI s a b := fun {a b} ha hb' h => by
    rw [cc ha hb', if_neg]
    intro q
    obtain ⟨k, hk, q⟩ := an_iff.mp q
    have q := of_decide_eq_true q
    have := (hc k hk).1.2.2
    rw [q.1, q.2] at this
    omega
  have cnew : ∀ {a b : Int}, 0 ≤ a ∧ a ≤ 7 → 0 ≤ b ∧ b ≤ 7 → cI s' a b = cI s a b ∨ (cI s' a b = 2 + s 4 ∧ ∃ k, k < shN sh ∧ cX sh r x k = a ∧ cY sh r y k = b) := fun {a b} ha hb' => by
    rw [cc ha hb']
    by_cases q : an (fun k => decide (cX sh r x k = a ∧ cY sh r y k = b)) (shN sh) = true
    · rw [if_pos q]
      obtain ⟨k, hk, q⟩ := an_iff.mp q
      exact Or.inr ⟨rfl, k, hk, of_decide_eq_true q⟩
    · rw [if_neg q]; exact Or.inl rfl
  have clt : ∀ {a b : Int}, 0 ≤ a ∧ a ≤ 7 → 0 ≤ b ∧ b ≤ 7 → cI s a b < 2 + s 4 := fun {a b} ha hb' => (w.bd.ce _ (by omega) (by omega)).2
  have hcB : ∀ j, 33 ≤ j → j < 97 → 0 ≤ c j ∧ c j < 3 + s 4 := by
    have : ∀ n, n ≤ shN sh → ∀ j, 33 ≤ j → j < 97 → 0 ≤ setC s sh r x y (2 + s 4) n j ∧ setC s sh r x y (2 + s 4) n j < 3 + s 4 := by
      intro n
      induction n with
      | zero => intro _ j j1 j2; have := w.bd.ce j j1 j2; rw [setC_0]; omega
      | succ n ih =>
        intro hn j j1 j2
        rw [setC]
        unfold fU
        split
        · omega
        · exact ih (by omega) j j1 j2
    intro j j1 j2
    rw [hcC]
    exact this _ (Nat.le_refl _) j j1 j2
  have dmc : Dm c := by unfold Dm; rw [co 0 (by decide), co 1 (by decide)]; exact w.bd.dm
  refine ⟨⟨by rw [g0]; exact d0, by rw [g1]; exact d1, by rw [g4]; omega, fun j j1 j2 => ?_, fun k hk => ?_, fun k hk j hj => ?_, ?_⟩, ⟨fun j j1 j2 => ?_, fun a b e he q2 q3 q4 => ?_⟩, ⟨by rw [g2]; omega, by rw [g3]; decide, fun p v hp w1 w2 => ?_, fun p hp => ?_, fun p v hp w1 w2 => ?_⟩, ⟨?_, ?_, ?_⟩, ?_⟩
  · rw [gc j j1 (by omega), g4]
    have := hcB j j1 j2
    omega
  · rw [g4] at hk
    unfold PcB
    by_cases q : k = K
    · subst q
      rw [n0, n1, n2, n3, n4, n5, g0, g1]
      exact ⟨⟨h1, h2⟩, ⟨h3, h4⟩, hx, hy, mv, by omega, pb.2⟩
    · rw [gk k 0 (by omega) (by decide), gk k 1 (by omega) (by decide), gk k 2 (by omega) (by decide), gk k 3 (by omega) (by decide), gk k 4 (by omega) (by decide), gk k 5 (by omega) (by decide), g0, g1]
      exact w.bd.pc k (by omega)
  · rw [g4] at hk
    by_cases q : k = K
    · subst q
      rw [n0] at hj
      rw [n0, n1, n2, n3]
      have hcj := hc j hj
      refine ⟨by rw [inB_cg g0 g1]; exact hcj.1.1, ?_⟩
      rw [cc hcj.2.1 hcj.2.2, if_pos (an_iff.mpr ⟨j, hj, decide_eq_true ⟨rfl, rfl⟩⟩), hK]
    · rw [gk k 0 (by omega) (by decide)] at hj
      rw [gk k 0 (by omega) (by decide), gk k 1 (by omega) (by decide), gk k 2 (by omega) (by decide), gk k 3 (by omega) (by decide)]
      obtain ⟨i1, i2⟩ := w.bd.pd k (by omega) j hj
      have i7 := inB_7 w.bd.dm i1
      refine ⟨by rw [inB_cg g0 g1]; exact i1, ?_⟩
      rw [cold i7.1 i7.2 (by rw [i2]; omega), i2]
  · rw [cvN_cg dmc (g0.trans (co 0 (by decide)).symm) (g1.trans (co 1 (by decide)).symm) (fun j j1 j2 => gc j j1 (by omega)), hcC, cvN_setC w.bd.dm h1 h2 h3 h4 (by omega) m3 (shN sh) (Nat.le_refl _), w.bd.cv]
    unfold szN
    rw [g4, show (s 4 + 1).toNat = K + 1 by omega, show (s 4).toNat = K by omega, sm, n0]
    rw [sm_congr (g := fun k => (shN (s' (pcI k 0)) : Int)) (f := fun k => (shN (s (pcI k 0)) : Int)) (n := K) fun k hk => by rw [gk k 0 (by omega) (by decide)]]
  · rw [gc j (by omega) j2, co j (by omega)]
    exact w.sp.st j j1 j2
  · rw [isEd_cg g0 g1] at q2
    have hi := isEd_in he q2
    have i7 := inB_7 w.bd.dm hi.1
    have i8 := inB_7 w.bd.dm hi.2
    have eb := edI_b w.bd.dm (e := e) hi.1
    have q3 : stB s a b e = true := by
      unfold stB at q3 ⊢
      rw [gc _ (by omega) (by omega), co _ (by omega)] at q3
      exact q3
    have l1 := clt i7.1 i7.2
    have l2 := clt i8.1 i8.2
    rcases cnew i7.1 i7.2 with e1 | ⟨e1, k1, hk1, u1, u2⟩
    · rw [e1] at q4 ⊢
      rcases cnew i8.1 i8.2 with e2 | ⟨e2, -⟩
      · rw [e2]; exact w.sp.nx a b e he q2 q3 q4
      · rw [e2]; omega
    · rcases cnew i8.1 i8.2 with e2 | ⟨e2, k2, hk2, v1, v2⟩
      · rw [e1, e2]; omega
      · obtain ⟨z1, z2, z3, z4⟩ := nei_edge (s := s) (x := a) (y := b) he
        have hne : k1 ≠ k2 := by
          intro q
          subst q
          have : bey0 a e = a ∧ bey1 b e = b := ⟨v1.symm.trans u1, v2.symm.trans u2⟩
          unfold bey0 bey1 at this
          rcases he with rfl | rfl
          · rw [if_pos rfl] at this; omega
          · rw [if_neg (by decide), if_neg (by decide)] at this; omega
        have := crs_no (mf_crs m3) hk1 hk2 hne (by rw [u1, u2, v1, v2]; exact z1) (by rw [u1, u2, v1, v2]; exact z3)
        rw [u1, u2, v1, v2, z2, z4, q3] at this
        simp at this
  · rw [gl p v hp (by omega) (by omega)]
    have := w.py.su p v hp w1 w2
    split
    · omega
    · rw [if_neg (by omega)]; exact this
  · rw [gl p 7 hp (by decide) (by decide), if_neg (by omega), if_neg (by omega)]; exact w.py.nm p hp
  · rw [gl p v hp (by omega) (by omega), if_neg (by omega), if_neg (by omega)]; exact w.py.le p v hp w1 w2
  · rw [gl 0 0 (Or.inl rfl) (by decide) (by decide), if_neg (by omega)]
    have := w.sc.s0
    split
    · rename_i q; rw [← q.1]; omega
    · exact this
  · rw [gl 1 0 (Or.inr rfl) (by decide) (by decide), if_neg (by omega)]
    have := w.sc.s1
    split
    · rename_i q; rw [← q.1]; omega
    · exact this
  · have e : ptN s' = ptN s + pts s sh r y := by
      unfold ptN
      rw [g4, show (s 4 + 1).toNat = K + 1 by omega, show (s 4).toNat = K by omega, sm, n5, sm_congr (g := fun k => s' (pcI k 5)) (f := fun k => s (pcI k 5)) (n := K) fun k hk => by rw [gk k 5 (by omega) (by decide)]]
    rw [e, gl 0 0 (Or.inl rfl) (by decide) (by decide), if_neg (show ¬ ((0 : Int) = s 2 ∧ (0 : Int) = 2 + sh) by omega), gl 1 0 (Or.inr rfl) (by decide) (by decide), if_neg (show ¬ ((1 : Int) = s 2 ∧ (0 : Int) = 2 + sh) by omega), ← w.sc.sum]
    rcases (show s 2 = 0 ∨ s 2 = 1 by omega) with q | q
    · rw [q, if_pos ⟨rfl, rfl⟩, if_neg (by omega)]; omega
    · rw [q, if_neg (by omega), if_pos ⟨rfl, rfl⟩]; omega
  · have a0 := w.sc.s0
    have a1 := w.sc.s1
    have a2 := w.sc.sum
    have sb : 0 ≤ ofS s (s 2) 0 ∧ ofS s (s 2) 0 ≤ 2176 := by
      rcases (show s 2 = 0 ∨ s 2 = 1 by omega) with q | q <;> rw [q] <;> omega
    rw [hs']
    unfold plc
    exact (((((((((((setC_rb w.rb (by omega) _).set (by omega)).set (by omega)).set (by omega)).set (by omega)).set (by omega)).set (by omega)).set (by omega)).set (by omega)).set (by omega)).set (by omega)).set (by decide)
theorem mayS_3 {s : tRow} (g : mayS s = true) : s 3 ≠ 2 := by
  unfold mayS ovr at g
  rw [Bool.and_eq_true] at g
  simpa using g.1
theorem Wf.rw {s : tRow} (w : Wf s) : Rw s := ⟨w.bd.dm, w.rb, w.py.mv.2, fun sh r x y h1 h2 h3 h4 h => w.bd.p31 h1 h2 h3 h4 (mayP_iff h).2.2, fun sh r x y h1 h2 h3 h4 h5 h6 h => (w.kPlc h1 h2 h3 h4 h5 h6 h).rb, fun x y d h1 h2 h3 => (w.kFas h1 h2 h3).rb, fun h => (w.kPas (mayS_3 h)).rb⟩
