/-! ===== the law's cases: append, one byte, quotients ===== -/
section CSZ
variable {G : tG} {hA hs : tHS} {sa len x m oa : Nat} {f : Nat → Int32} {fi : Nat → Int} {ar : Nat → Nat → Int}
theorem lc_284 (K : KV G hA sa len f) (J : JV G hA x m oa hs fi ar) {p : Int} (hp : 0 ≤ p ∧ p + 6 ≤ len) {w5 w6 w7 w8 : Option Value} : StL G hA sa x m oa p hs (t_Ev (t_pg G) t_hd Y_L_law 284 ([some (.ref sa), some (.ref x), some (.ref m), some (.ref oa), some (.int (iI p)), w5, w6, w7, w8], [], hs)) := by
  obtain ⟨sv, a, ia, ow, dq, sb, ea, hd, gs, fs, X⟩ := J.1.xo
  have d : ∀ k : Int, 1 ≤ k → k ≤ 5 → ldI hs.1 (.ref sa) (iI (p + k)) 0 0 = some (f (p + k).toNat) := fun k h1 h2 => J.1.ld K (by omega) (by omega)
  obtain ⟨hs1, e1, X1, M1⟩ := (a_append (G := G) X J.1.fr J.2 (x1 := f (p + 1).toNat) (x2 := f (p + 2).toNat) (x3 := f (p + 3).toNat) (x4 := f (p + 4).toNat) (x5 := f (p + 5).toNat)).cg (hA := hA)
  dsimp only at e1
  have J1 := J.1.after X1 M1
  have g : ∀ k : Int, 1 ≤ k → k ≤ 5 → ldI hs1.1 (.ref sa) (iI (p + k)) 0 0 = some (f (p + k).toNat) := fun k h1 h2 => J1.ld K (by omega) (by omega)
  obtain ⟨hs', fi', ar', e, J', hz⟩ := J1.stQ (kc := fun _ => 1) (E5 := fun a => t_Ev (t_pg G) t_hd Y_X5_append 0 ([some (.ref a), (some (.int (f (p + 1).toNat))), (some (.int (f (p + 2).toNat))), (some (.int (f (p + 3).toNat))), (some (.int (f (p + 4).toNat))), (some (.int (f (p + 5).toNat)))], [], hs1)) (K := fun h => t_Ev (t_pg G) t_hd Y_L_law 2718 ([some (.ref sa), some (.ref x), some (.ref m), some (.ref oa), some (.int (iI p)), w5, w6, w7, w8], [], h)) (Z := fun h => rI 0 h) (J1.at (P := fun h => MM m hs1.1 hs1.2 (fun _ => 1) (t_Ev (t_pg G) t_hd Y_X5_append 0 ([some (.ref m), (some (.int (f (p + 1).toNat))), (some (.int (f (p + 2).toNat))), (some (.int (f (p + 3).toNat))), (some (.int (f (p + 4).toNat))), (some (.int (f (p + 5).toNat)))], [], h)) _ _ _) (m_append J.2))
  refine ⟨hs', fi', ar', w5, w6, w7, w8, Eq.trans ?_ e, J', by rw [hz]; exact M1.2.1.2, by rw [hz]; exact M1.2.2.1.2⟩
  rw [b_L_law_284]
  simp only [iI_add, d 1 (by decide) (by decide), d 2 (by decide) (by decide), d 3 (by decide) (by decide), d 4 (by decide) (by decide), d 5 (by decide) (by decide), Option.bind_some, J.1.kx]
  rw [e1, bI_rI]
  simp only [g 1 (by decide) (by decide), g 2 (by decide) (by decide), g 3 (by decide) (by decide), g 4 (by decide) (by decide), g 5 (by decide) (by decide), Option.bind_some]
  (try rfl)
theorem lc_2693 (K : KV G hA sa len f) (J : JV G hA x m oa hs fi ar) {p : Int} (hp : 0 ≤ p ∧ p + 6 ≤ len) {w5 w6 w7 w8 : Option Value} : StL G hA sa x m oa p hs (t_Ev (t_pg G) t_hd Y_L_law 2693 ([some (.ref sa), some (.ref x), some (.ref m), some (.ref oa), some (.int (iI p)), w5, w6, w7, w8], [], hs)) := by
  obtain ⟨sv, a, ia, ow, dq, sb, ea, hd, gs, fs, X⟩ := J.1.xo
  obtain ⟨a1, i1, s1⟩ := i32 (f (p + 1).toNat)
  have d1 : ldI hs.1 (.ref sa) (iI (p + 1)) 0 0 = some (iI a1) := (J.1.ld K (by omega) (by omega)).trans (congrArg some s1)
  obtain ⟨hs1, e1, X1, M1⟩ := CQ.cg (hA := hA) X J.1.fr J.2.o199 (q_outputByte (G := G) X J.1.fr J.2 i1)
  dsimp only at e1
  have J1 := J.1.after X1 M1
  have g1 : ldI hs1.1 (.ref sa) (iI (p + 1)) 0 0 = some (iI a1) := (J1.ld K (by omega) (by omega)).trans (congrArg some s1)
  obtain ⟨hs', fi', ar', e, J', hz⟩ := J1.stQ (kc := fun _ => 1) (E5 := fun a => t_Ev (t_pg G) t_hd Y_X5_outputByte 0 ([some (.ref a), some (.int (iI a1))], [], hs1)) (K := fun h => t_Ev (t_pg G) t_hd Y_L_law 2718 ([some (.ref sa), some (.ref x), some (.ref m), some (.ref oa), some (.int (iI p)), w5, w6, w7, w8], [], h)) (Z := fun h => rI 0 h) (J1.at (P := fun h => MM m hs1.1 hs1.2 (fun _ => 1) (t_Ev (t_pg G) t_hd Y_X5_outputByte 0 ([some (.ref m), some (.int (iI a1))], [], h)) _ _ _) (MM.ofQ J.2 (m_outputByte J.2 i1)))
  refine ⟨hs', fi', ar', w5, w6, w7, w8, Eq.trans ?_ e, J', by rw [hz]; exact M1.2.1.2, by rw [hz]; exact M1.2.2.1.2⟩
  rw [b_L_law_2693]
  simp only [iI_add, d1, Option.bind_some, J.1.kx]
  rw [e1, bI_rI]
  simp only [g1, Option.bind_some]
  (try rfl)
/-- two equal numbers: the command is done -/
theorem if3 {α : Type} {c : Prop} [Decidable c] {A B : α} : (if c then A else if c then B else if c then B else A) = A := by
  by_cases h : c
  · rw [if_pos h]
  · rw [if_neg h, if_neg h, if_neg h]
theorem lc_2596 (K : KV G hA sa len f) (J : JV G hA x m oa hs fi ar) {p : Int} (hp : 0 ≤ p ∧ p + 6 ≤ len) {w5 w6 w7 w8 : Option Value} : StL G hA sa x m oa p hs (t_Ev (t_pg G) t_hd Y_L_law 2596 ([some (.ref sa), some (.ref x), some (.ref m), some (.ref oa), some (.int (iI p)), w5, w6, w7, w8], [], hs)) := by
  obtain ⟨sv, a, ia, ow, dq, sb, ea, hd, gs, fs, X⟩ := J.1.xo
  have e1 := q_coverage (G := G) X J.2
  have mm : ∀ hs1 : tHS, JM G hA x m oa hs1 fi ar fi ar → ∃ fi', t_Ev (t_pg G) t_hd Y_X5_coverage 0 ([some (.ref m), none], [], hs1) = rD (cvD (ar 0)) (hM m fi' ar hs1.1, hs1.2) ∧ Sc QI QA fi ar fi' ar := fun hs1 J1 => J1.at (P := fun h => ∃ fi', t_Ev (t_pg G) t_hd Y_X5_coverage 0 ([some (.ref m), none], [], h) = rD (cvD (ar 0)) (hM m fi' ar hs1.1, hs1.2) ∧ Sc QI QA fi ar fi' ar) ⟨_, m_coverage J.2, q7_Sc⟩
  obtain ⟨fi', e2, sc⟩ := mm hs J.1
  have J' := J.1.done (AG.of sc (by decide) (by decide) (by decide) (by decide) (by decide) (by decide) (by decide) (by decide) (by decide) (by decide) (by decide)) (J.2.sc sc (by decide) (by decide) (by decide) (by decide) (by decide) (by decide) (by decide) (by decide) (by decide))
  have z := Nat.le_add_right hs.2.1 31000
  have z' := Nat.le_add_right hs.2.2 182000
  refine ⟨_, fi', ar, some (.double (cvD (ar 0))), none, some (.double (cvD (ar 0))), none, ?_, J', z, z'⟩
  rw [b_L_law_2596, X.kx, Option.bind_some, e1]
  show ((t_kN hs.1 (.ref m) 1).bind fun a_4 => bndD (t_Ev (t_pg G) t_hd Y_X5_coverage 0 ([some (.ref a_4), none], [], hs)) _ tX) = _
  rw [J.1.km, Option.bind_some, e2]
  exact (if3 (c := (Op.cmpValue (FP.dcmp (cvD (ar 0)) (cvD (ar 0))) .l) = iI 0)).trans (b_L_law_2634 ..)
theorem mnF_ok {s : tRow} {L : Nat → Nat} (hD : Dm s) : FP.f2d (mnF (emA s) (rgN s L)) &&& 0x7fffffffffffffff ≤ 0x7ff0000000000000 := by
  unfold mnF
  by_cases c : rgN s L = 0
  · rw [if_pos c]; exact f0_ok
  · rw [if_neg c]; exact (mn_ok hD c).2
theorem lc_2637 (K : KV G hA sa len f) (J : JV G hA x m oa hs fi ar) {p : Int} (hp : 0 ≤ p ∧ p + 6 ≤ len) {w5 w6 w7 w8 : Option Value} : StL G hA sa x m oa p hs (t_Ev (t_pg G) t_hd Y_L_law 2637 ([some (.ref sa), some (.ref x), some (.ref m), some (.ref oa), some (.int (iI p)), w5, w6, w7, w8], [], hs)) := by
  obtain ⟨sv, a, ia, ow, dq, sb, ea, hd, gs, fs, X⟩ := J.1.xo
  obtain ⟨L, lf⟩ := Lf_ex (s := ar 0) J.2.w.bd.dm J.2.w.rb
  have ok := mnF_ok (L := L) J.2.w.bd.dm
  obtain ⟨hs1, e1, M1⟩ := q_meanRegion (G := G) X J.1.fr J.2 lf
  have J1 := J.1.after (X.ex J.1.fr M1 J.2.o199).xo ((Ex.toN M1).le (by decide) (by decide))
  have mm : ∀ hs1 : tHS, JM G hA x m oa hs1 fi ar fi ar → ∃ fi' a2, t_Ev (t_pg G) t_hd Y_X5_meanRegion 0 ([some (.ref m), none], [], hs1) = rF (mnF (emA (ar 0)) (rgN (ar 0) L)) (hM m fi' a2 hs1.1, hs1.2) ∧ Sc QI QA fi ar fi' a2 := fun hs1 J1 => J1.at (P := fun h => ∃ fi' a2, t_Ev (t_pg G) t_hd Y_X5_meanRegion 0 ([some (.ref m), none], [], h) = rF (mnF (emA (ar 0)) (rgN (ar 0) L)) (hM m fi' a2 hs1.1, hs1.2) ∧ Sc QI QA fi ar fi' a2) (by
    obtain ⟨a2, e, s⟩ := m_meanRegion (G := G) (m := m) (g := hs1.1) (z := hs1.2) J.2 lf
    exact ⟨_, a2, e, s⟩)
  obtain ⟨fi', a2, e2, sc⟩ := mm hs1 J1
  have J' := J1.done (AG.of sc (by decide) (by decide) (by decide) (by decide) (by decide) (by decide) (by decide) (by decide) (by decide) (by decide) (by decide)) (J.2.sc sc (by decide) (by decide) (by decide) (by decide) (by decide) (by decide) (by decide) (by decide) (by decide))
  have z := M1.2.1.2
  have z' := M1.2.2.1.2
  refine ⟨_, fi', a2, some (.double (FP.f2d (mnF (emA (ar 0)) (rgN (ar 0) L)))), none, some (.double (FP.f2d (mnF (emA (ar 0)) (rgN (ar 0) L)))), none, ?_, J', by show hs1.2.1 ≤ _; omega, by show hs1.2.2 ≤ _; omega⟩
  rw [b_L_law_2637, X.kx, Option.bind_some, e1]
  obtain ⟨F, hF⟩ : ∃ F, F = mnF (emA (ar 0)) (rgN (ar 0) L) := ⟨_, rfl⟩
  rw [← hF] at ok e2 ⊢
  show (if FP.f2d F &&& 0x7fffffffffffffff ≤ 0x7ff0000000000000 then ((t_kN hs1.1 (.ref m) 1).bind fun a_4 => bndF (t_Ev (t_pg G) t_hd Y_X5_meanRegion 0 ([some (.ref a_4), none], [], hs1)) _ tX) else none) = _
  rw [if_pos ok, J1.km, Option.bind_some, e2]
  show (if FP.f2d F &&& 0x7fffffffffffffff ≤ 0x7ff0000000000000 then _ else none) = _
  rw [if_pos ok]
  exact (if3 (c := (Op.cmpValue (FP.dcmp (FP.f2d F) (FP.f2d F)) .l) = iI 0)).trans (b_L_law_2677 ..)
end CSZ
