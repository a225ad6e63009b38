/-! ===== the model's changes ===== -/
/-- numbers that say the same to the component -/
abbrev AG (fC : Nat → Int) (aC : Nat → Nat → Int) (fi' : Nat → Int) (ar' : Nat → Nat → Int) : Prop := (fi' 6 = fC 6) ∧ (fi' 13 = fC 13) ∧ (fi' 14 = fC 14) ∧ (fi' 15 = fC 15) ∧ (fi' 16 = fC 16) ∧ (∀ j, j < 417 → ar' 0 j = aC 0 j) ∧ (∀ j, j < 3336 → ar' 2 j = aC 2 j) ∧ (∀ j, j < 834 → ar' 3 j = aC 3 j) ∧ (∀ k, k < 2 → ar' 5 k = aC 5 k) ∧ (∀ j : Nat, (j : Int) < fC 13 → ar' 8 j = aC 8 j) ∧ (∀ j : Nat, (j : Int) < fC 14 → ar' 9 j = aC 9 j)
theorem AG.h6 {fC : Nat → Int} {aC : Nat → Nat → Int} {fi' : Nat → Int} {ar' : Nat → Nat → Int} (zz : AG fC aC fi' ar') : fi' 6 = fC 6 := zz.1
theorem AG.h13 {fC : Nat → Int} {aC : Nat → Nat → Int} {fi' : Nat → Int} {ar' : Nat → Nat → Int} (zz : AG fC aC fi' ar') : fi' 13 = fC 13 := zz.2.1
theorem AG.h14 {fC : Nat → Int} {aC : Nat → Nat → Int} {fi' : Nat → Int} {ar' : Nat → Nat → Int} (zz : AG fC aC fi' ar') : fi' 14 = fC 14 := zz.2.2.1
theorem AG.h15 {fC : Nat → Int} {aC : Nat → Nat → Int} {fi' : Nat → Int} {ar' : Nat → Nat → Int} (zz : AG fC aC fi' ar') : fi' 15 = fC 15 := zz.2.2.2.1
theorem AG.h16 {fC : Nat → Int} {aC : Nat → Nat → Int} {fi' : Nat → Int} {ar' : Nat → Nat → Int} (zz : AG fC aC fi' ar') : fi' 16 = fC 16 := zz.2.2.2.2.1
theorem AG.a0 {fC : Nat → Int} {aC : Nat → Nat → Int} {fi' : Nat → Int} {ar' : Nat → Nat → Int} (zz : AG fC aC fi' ar') : ∀ j, j < 417 → ar' 0 j = aC 0 j := zz.2.2.2.2.2.1
theorem AG.a2 {fC : Nat → Int} {aC : Nat → Nat → Int} {fi' : Nat → Int} {ar' : Nat → Nat → Int} (zz : AG fC aC fi' ar') : ∀ j, j < 3336 → ar' 2 j = aC 2 j := zz.2.2.2.2.2.2.1
theorem AG.a3 {fC : Nat → Int} {aC : Nat → Nat → Int} {fi' : Nat → Int} {ar' : Nat → Nat → Int} (zz : AG fC aC fi' ar') : ∀ j, j < 834 → ar' 3 j = aC 3 j := zz.2.2.2.2.2.2.2.1
theorem AG.a5 {fC : Nat → Int} {aC : Nat → Nat → Int} {fi' : Nat → Int} {ar' : Nat → Nat → Int} (zz : AG fC aC fi' ar') : ∀ k, k < 2 → ar' 5 k = aC 5 k := zz.2.2.2.2.2.2.2.2.1
theorem AG.a8 {fC : Nat → Int} {aC : Nat → Nat → Int} {fi' : Nat → Int} {ar' : Nat → Nat → Int} (zz : AG fC aC fi' ar') : ∀ j : Nat, (j : Int) < fC 13 → ar' 8 j = aC 8 j := zz.2.2.2.2.2.2.2.2.2.1
theorem AG.a9 {fC : Nat → Int} {aC : Nat → Nat → Int} {fi' : Nat → Int} {ar' : Nat → Nat → Int} (zz : AG fC aC fi' ar') : ∀ j : Nat, (j : Int) < fC 14 → ar' 9 j = aC 9 j := zz.2.2.2.2.2.2.2.2.2.2
theorem AG.refl {fC : Nat → Int} {aC : Nat → Nat → Int} : AG fC aC fC aC := ⟨rfl, rfl, rfl, rfl, rfl, fun _ _ => rfl, fun _ _ => rfl, fun _ _ => rfl, fun _ _ => rfl, fun _ _ => rfl, fun _ _ => rfl⟩
/-- the numbers the component knows of are as they were -/
theorem AG.of {I A : List Nat} {fC fi' : Nat → Int} {aC ar' : Nat → Nat → Int} (s : Sc I A fC aC fi' ar') (h6 : 6 ∉ I) (h13 : 13 ∉ I) (h14 : 14 ∉ I) (h15 : 15 ∉ I) (h16 : 16 ∉ I) (a0 : 0 ∉ A) (a2 : 2 ∉ A) (a3 : 3 ∉ A) (a5 : 5 ∉ A) (a8 : 8 ∉ A) (a9 : 9 ∉ A) : AG fC aC fi' ar' :=
  ⟨s.1 6 h6, s.1 13 h13, s.1 14 h14, s.1 15 h15, s.1 16 h16, fun j _ => by rw [s.2 0 a0], fun j _ => by rw [s.2 2 a2], fun j _ => by rw [s.2 3 a3], fun k _ => by rw [s.2 5 a5], fun j _ => by rw [s.2 8 a8], fun j _ => by rw [s.2 9 a9]⟩
theorem Md.cg {fC fi' : Nat → Int} {aC ar' : Nat → Nat → Int} (md : Md fC aC) (ag : AG fC aC fi' ar') (b0 : RB (ar' 0)) (b2 : RB (ar' 2)) (b3 : RB (ar' 3)) (ib : IB (ar' 8)) : Md fi' ar' := by
  have c6 := md.c6
  refine ⟨md.w.cgR b0 ag.a0, b2, b3, by rw [ag.h6]; exact c6, by rw [ag.h13]; exact md.n13, ib, fun k hk => ?_, fun k hk e => ?_, fun k hk => by rw [ag.a5 k hk]; exact md.f5 k hk, by rw [ag.h14]; exact md.o14, fun j hj => ?_⟩
  · rw [ag.h6] at hk
    exact (md.kw k hk).cgR (sft_rb b2) fun j hj => ag.a2 _ (by omega)
  · rw [ag.a5 k hk] at e
    exact (md.sw k hk e).cgR (sft_rb b3) fun j hj => ag.a3 _ (by omega)
  · rw [ag.h14] at hj
    rw [ag.a9 j hj]
    exact md.o9 j hj
theorem Md.sc {I A : List Nat} {fi fi' : Nat → Int} {ar ar' : Nat → Nat → Int} (md : Md fi ar) (s : Sc I A fi ar fi' ar') (h6 : 6 ∉ I) (h13 : 13 ∉ I) (h14 : 14 ∉ I) (a0 : 0 ∉ A) (a2 : 2 ∉ A) (a3 : 3 ∉ A) (a5 : 5 ∉ A) (a8 : 8 ∉ A) (a9 : 9 ∉ A) : Md fi' ar' := by
  have e6 := s.1 6 h6
  have e13 := s.1 13 h13
  have e14 := s.1 14 h14
  have e0 := s.2 0 a0
  have e2 := s.2 2 a2
  have e3 := s.2 3 a3
  have e5 := s.2 5 a5
  have e8 := s.2 8 a8
  have e9 := s.2 9 a9
  exact ⟨by rw [e0]; exact md.w, by rw [e2]; exact md.b2, by rw [e3]; exact md.b3, by rw [e6]; exact md.c6, by rw [e13]; exact md.n13, by rw [e8]; exact md.ib, by rw [e6, e2]; exact md.kw, by rw [e5, e3]; exact md.sw, by rw [e5]; exact md.f5, by rw [e14]; exact md.o14, by rw [e14, e9]; exact md.o9⟩
/-- the row remembered, another in its place -/
theorem remK_rb {kept row : Nat → Int} {c : Int} (h : RB kept) (h' : RB row) : RB (remK kept c row) := fun j => by
  unfold remK va_cpy
  split
  · exact h' _
  · split
    · try dsimp only
      split
      · exact h _
      · exact h _
    · exact h _
theorem Md.mv {fi : Nat → Int} {ar : Nat → Nat → Int} (md : Md fi ar) {s' : tRow} (w' : Wf s') : Md (mvF true fi) (mvA true fi ar s') := by
  have c6 := md.c6
  have A0 : aS (aS ar 2 (remK (ar 2) (fi 6) (ar 0))) 0 s' 0 = s' := aS_s
  have A2 : aS (aS ar 2 (remK (ar 2) (fi 6) (ar 0))) 0 s' 2 = remK (ar 2) (fi 6) (ar 0) := (aS_n (by decide)).trans aS_s
  have A3 : aS (aS ar 2 (remK (ar 2) (fi 6) (ar 0))) 0 s' 3 = ar 3 := (aS_n (by decide)).trans (aS_n (by decide))
  have A5 : aS (aS ar 2 (remK (ar 2) (fi 6) (ar 0))) 0 s' 5 = ar 5 := (aS_n (by decide)).trans (aS_n (by decide))
  have A8 : aS (aS ar 2 (remK (ar 2) (fi 6) (ar 0))) 0 s' 8 = ar 8 := (aS_n (by decide)).trans (aS_n (by decide))
  have A9 : aS (aS ar 2 (remK (ar 2) (fi 6) (ar 0))) 0 s' 9 = ar 9 := (aS_n (by decide)).trans (aS_n (by decide))
  have rb := remK_rb (c := fi 6) md.b2 md.w.rb
  have rc : 0 ≤ remC (fi 6) ∧ remC (fi 6) ≤ 7 := by unfold remC; split <;> omega
  show Md (fU fi 6 (remC (fi 6) + 1)) (aS (aS ar 2 (remK (ar 2) (fi 6) (ar 0))) 0 s')
  refine ⟨by rw [A0]; exact w', by rw [A2]; exact rb, by rw [A3]; exact md.b3, by rw [fU_s]; omega, by rw [fU_n (by decide)]; exact md.n13, by rw [A8]; exact md.ib, fun k hk => ?_, by rw [A5, A3]; exact md.sw, by rw [A5]; exact md.f5, by rw [fU_n (by decide)]; exact md.o14, by rw [fU_n (by decide), A9]; exact md.o9⟩
  rw [fU_s] at hk
  rw [A2]
  by_cases e : k = (remC (fi 6)).toNat
  · subst e
    exact md.w.cgR (sft_rb rb) fun j hj => remK_n md.c6 hj
  · have hk' : k < (remC (fi 6)).toNat := by omega
    refine (md.kw (if fi 6 = 8 then k + 1 else k) ?_).cgR (sft_rb rb) fun j hj => remK_o md.c6 hk' hj
    unfold remC at hk'
    split at hk' <;> (split <;> omega)
/-- a change's answer by the model -/
def MM (m : Nat) (g : tAH) (z : Nat × Nat) (kc : Nat → Int) (E : Option tRS) (r : Nat ⊕ Int) (fC : Nat → Int) (aC : Nat → Nat → Int) : Prop := ∃ fi' ar' v, E = rI v (hM m fi' ar' g, z) ∧ (match r with
  | .inl κ => fi' 7 = kc κ
  | .inr w => fi' 7 = 0 ∧ v = w) ∧ AG fC aC fi' ar' ∧ Md fi' ar'
section MMU
variable {G : tG} {m : Nat} {fi : Nat → Int} {ar : Nat → Nat → Int} {g : tAH} {z : Nat × Nat} {kc : Nat → Int}
theorem MM.ofQ {E : Option tRS} {r : Nat ⊕ Int} (md : Md fi ar) (h : MQr m g z fi ar kc E r) : MM m g z kc E r fi ar := by
  obtain ⟨fi', ar', v, e, s, k⟩ := h
  exact ⟨fi', ar', v, e, k, AG.of s (by decide) (by decide) (by decide) (by decide) (by decide) (by decide) (by decide) (by decide) (by decide) (by decide) (by decide), md.sc s (by decide) (by decide) (by decide) (by decide) (by decide) (by decide) (by decide) (by decide) (by decide)⟩
theorem MM.t7 {E : Option tRS} {c : Int} {κ : Nat} (md : Md fi ar) (e : E = rI 0 (hM m (fU fi 7 c) ar g, z)) (h : c = kc κ) : MM m g z kc E (.inl κ) fi ar := MM.ofQ md (MQr.t7 e h)
/-- a move made: the row remembered, the next in its place -/
theorem MM.mv {E : Option tRS} {f1 : Nat → Int} {a1 : Nat → Nat → Int} {v : Int} {s' : tRow} (md : Md fi ar) (w' : Wf s') (e : E = rI v (hM m f1 a1 g, z)) (h7 : f1 7 = 0) (s : Sc [6, 7, 17] [0, 2, 10, 11] fi ar f1 a1) (h6 : f1 6 = remC (fi 6) + 1) (h0 : a1 0 = s') (h2 : a1 2 = remK (ar 2) (fi 6) (ar 0)) : MM m g z kc E (.inr v) (mvF true fi) (mvA true fi ar s') := by
  show MM m g z kc E (.inr v) (fU fi 6 (remC (fi 6) + 1)) (aS (aS ar 2 (remK (ar 2) (fi 6) (ar 0))) 0 s')
  have sc : Sc [7, 17] [10, 11] (fU fi 6 (remC (fi 6) + 1)) (aS (aS ar 2 (remK (ar 2) (fi 6) (ar 0))) 0 s') f1 a1 := ⟨fun j hj => by
    by_cases c : j = 6
    · subst c; exact h6.trans fU_s.symm
    · exact (s.1 j (fun q => by simp at q hj; omega)).trans (fU_n c).symm, fun k hk => by
    by_cases c : k = 0
    · subst c; exact h0.trans aS_s.symm
    · by_cases c2 : k = 2
      · subst c2
        rw [aS_n (by decide), aS_s]
        exact h2
      · rw [aS_n c, aS_n c2]
        exact s.2 k (fun q => by simp at q hk; omega)⟩
  exact ⟨f1, a1, v, e, ⟨h7, rfl⟩, AG.of sc (by decide) (by decide) (by decide) (by decide) (by decide) (by decide) (by decide) (by decide) (by decide) (by decide) (by decide), (md.mv w').sc sc (by decide) (by decide) (by decide) (by decide) (by decide) (by decide) (by decide) (by decide) (by decide)⟩
theorem m_place (md : Md fi ar) {sh r u w : Int} (h1 : InR sh) (h2 : InR r) (h3 : InR u) (h4 : InR w) : MM m g z kcA (t_Ev (t_pg G) t_hd Y_X5_place 0 ([some (.ref m), some (.int (iI sh)), some (.int (iI r)), some (.int (iI u)), some (.int (iI w)), none, none], [], (hM m fi ar g, z))) (plR (ar 0) sh r u w (if mayP (ar 0) sh r u w = true then .inr (pts (ar 0) sh r w) else .inl 16)) (mvF ((isB sh 0 4 && isB r 0 3) && (inB (ar 0) u w && mayP (ar 0) sh r u w)) fi) (mvA ((isB sh 0 4 && isB r 0 3) && (inB (ar 0) u w && mayP (ar 0) sh r u w)) fi ar (plc (ar 0) sh r u w)) := by
  have t0 : t_Ev (t_pg G) t_hd Y_X5_place 0 ([some (.ref m), some (.int (iI sh)), some (.int (iI r)), some (.int (iI u)), some (.int (iI w)), none, none], [], (hM m fi ar g, z)) = t_Ev (t_pg G) t_hd Y_X5_place 19 ([some (.ref m), some (.int (iI sh)), some (.int (iI r)), some (.int (iI u)), some (.int (iI w)), none, none], [.int (iI (bB (!(isB sh 0 4 && isB r 0 3))))], (hM m fi ar g, z)) := by
    rw [b_X5_place_0, e_noShape h1, bI_rB]
    simp only [bB_0]
    cases isB sh 0 4 with
    | false => rw [show (!false : Bool) = true from rfl, if_neg (by decide), b_X5_place_14]; rfl
    | true =>
      rw [show (!true : Bool) = false from rfl, if_pos rfl, e_noTurn h2, bI_rB]
      simp only [bB_0]
      cases isB r 0 3 with
      | false => rw [show (!false : Bool) = true from rfl, if_neg (by decide), b_X5_place_14]; rfl
      | true => rw [show (!true : Bool) = false from rfl, if_pos rfl]; rfl
  have t19 : ∀ c : Int, t_Ev (t_pg G) t_hd Y_X5_place 19 ([some (.ref m), some (.int (iI sh)), some (.int (iI r)), some (.int (iI u)), some (.int (iI w)), none, none], [.int (iI c)], (hM m fi ar g, z)) = t_Ev (t_pg G) t_hd Y_X5_place 36 ([some (.ref m), some (.int (iI sh)), some (.int (iI r)), some (.int (iI u)), some (.int (iI w)), some (.int (iI c)), none], [.int (iI (bB (!inB (ar 0) u w)))], (hM m fi ar g, z)) := fun c => by
    rw [b_X5_place_19, mK, Option.bind_some, e_isInside md.w.bd.dm h3.1 h3.2 h4.1 h4.2, bI_rB]
    simp only [bB_0]
    cases inB (ar 0) u w <;> rfl
  rw [t0, t19, b_X5_place_36]
  unfold plR
  cases c1 : (isB sh 0 4 && isB r 0 3) with
  | false =>
    refine MM.t7 (c := 1) md ?_ rfl
    rw [show bB (!false) = 1 from rfl, if_neg (by decide), b_X5_place_69, b_X5_place_70, mK, Option.bind_some, ef1, bI_rI, if_neg (by decide)]
    rfl
  | true =>
    rw [Bool.and_eq_true] at c1
    have b1 := isB_iff.mp c1.1
    have b2 := isB_iff.mp c1.2
    rw [show bB (!true) = 0 from rfl, if_pos rfl, if_pos rfl]
    cases c2 : inB (ar 0) u w with
    | false =>
      refine MM.t7 (c := 2) md ?_ rfl
      rw [show bB (!false) = 1 from rfl, if_neg (by decide), b_X5_place_69, b_X5_place_70, mK, Option.bind_some, ef01, bI_rI, if_neg (by decide)]
      rfl
    | true =>
      have hi := inB_7 md.w.bd.dm c2
      have hin := inB_iff.mp c2
      obtain ⟨f1, a1, e1, s1⟩ := e_mayPlace (G := G) (m := m) (fi := fi) (ar := ar) (g := g) (z := z) md.w.bd.dm md.w.rb md.w.py.mv.2 b1.1 b1.2 b2.1 b2.2 hi.1 hi.2
      rw [show bB (!true) = 0 from rfl, if_pos rfl, mK, Option.bind_some, e1, bI_rB, if_pos rfl]
      simp only [bB_0]
      cases cm : mayP (ar 0) sh r u w with
      | false =>
        refine MM.ofQ md (MQr.t (fi' := fU f1 7 3) (ar' := a1) (w := 0) ?_ (s1.q17.fU (by decide)) fU_s)
        rw [if_pos rfl, b_X5_place_70, mK, Option.bind_some, ef001, bI_rI, if_neg (by decide)]
        rfl
      | true =>
        have mm := mayP_iff cm
        have p31 := md.w.bd.p31 b1.1 b1.2 b2.1 b2.2 mm.2.2
        have hI := mf_in md.w.bd.dm mm.2.2
        have a10 : a1 0 = ar 0 := s1.2 0 (by decide)
        have a12 : a1 2 = ar 2 := s1.2 2 (by decide)
        have f16 : fU f1 7 0 6 = fi 6 := (fU_n (by decide)).trans (s1.1 6 (by decide))
        obtain ⟨a2, ha2⟩ : ∃ a2, a2 = aS a1 2 (remK (a1 2) (fU f1 7 0 6) (a1 0)) := ⟨_, rfl⟩
        have a20 : a2 0 = ar 0 := by rw [ha2, aS_n (by decide)]; exact a10
        obtain ⟨f3, a3, e3, s3, r3⟩ := e_places (G := G) (m := m) (fi := fU (fU f1 7 0) 6 (remC (fU f1 7 0 6) + 1)) (ar := a2) (g := g) (z := z) (by rw [a20]; exact md.w.bd.dm) (by rw [a20]; exact md.w.rb) (by rw [a20]; exact md.w.py.mv.2) (by rw [a20]; exact p31) b1.1 b1.2 b2.1 b2.2 hi.1 hi.2 (fun k hk => (hI k hk).2)
        rw [a20] at e3 r3
        rw [if_neg (by decide), b_X5_place_69, b_X5_place_70, mK, Option.bind_some, ef0, bI_rI, if_pos rfl, mgR0, Option.bind_some, mK, Option.bind_some, va_rf_some, show m + 1 = m + 1 + 0 from rfl, e_remember (by decide) (by decide) rfl (by rw [f16]; exact md.c6), bV_rV, mK, Option.bind_some, ← ha2, e3, bI_rI]
        refine MM.mv md (md.w.kPlc b1.1 b1.2 b2.1 b2.2 hin.1 hin.2 cm) rfl ?_ ?_ ?_ r3 ?_
        · exact (s3.1 7 (by decide)).trans ((fU_n (by decide)).trans fU_s)
        · have sa : Sc [6, 7, 17] [0, 2, 10, 11] fi ar (fU (fU f1 7 0) 6 (remC (fU f1 7 0 6) + 1)) a2 := by
            rw [ha2]
            exact (((s1.mono (by decide) (by decide)).fU (by decide)).fU (by decide)).aS (by decide)
          exact sa.trans (s3.mono (by decide) (by decide))
        · rw [s3.1 6 (by decide), fU_s, f16]
        · rw [s3.2 2 (by decide), ha2, aS_s, a12, f16, a10]
end MMU
