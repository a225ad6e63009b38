/-! ===== a string's hash kept: the game stays ===== -/
section HW
variable {G : tG} {D M : Nat → Prop} {h : tAH} {z vq0 : Nat} {hv0 hz0 : Int32}
/-- the string at z gets its hash -/
abbrev hwE (vq0 : Nat) (hv0 hz0 : Int32) : tEnt := (true, 11, .inl [.ref vq0, .int (iI 0), .int hv0, .int hz0])
theorem ST.hw {q n : Nat} {f : Nat → Int} (hz : h z = some (hwE vq0 (iI 0) (iI 0))) (H : ST D h q n f) : ST D (t_up h z (hwE vq0 hv0 hz0)) q n f := by
  obtain ⟨d, b, hv, hzz, vq, e1, d2, b', g, e2, e3⟩ := H
  have e2' : t_up h z (hwE vq0 hv0 hz0) vq = some (b', 2, .inr (n, .inl g)) := up_tg e2 hz (by show ((2 : Nat), n + 1) ≠ (11, 0); intro w; cases w)
  by_cases c : q = z
  · subst c
    rw [hz] at e1
    have w := Option.some.inj e1
    simp only [Prod.mk.injEq, Sum.inl.injEq, List.cons.injEq, Value.ref.injEq] at w
    obtain ⟨-, -, w, -⟩ := w
    refine ⟨d, true, hv0.toInt, hz0.toInt, vq, ?_, d2, b', g, e2', e3⟩
    rw [t_up_s, iI_self, iI_self, w]
  · exact ⟨d, b, hv, hzz, vq, (t_up_n c).trans e1, d2, b', g, e2', e3⟩
theorem PL.hw {q : Nat} {sh r x y : Int} (hz : h z = some (hwE vq0 (iI 0) (iI 0))) (H : PL G D h q sh r x y) : PL G D (t_up h z (hwE vq0 hv0 hz0)) q sh r x y := ⟨H.1, up_tg H.2 hz (by show ((5 : Nat), 0) ≠ (11, 0); decide)⟩
theorem PlR.hw {b su p : Nat} {s : tRow} (hz : h z = some (hwE vq0 (iI 0) (iI 0))) (H : PlR D M h b su s p) : PlR D M (t_up h z (hwE vq0 hv0 hz0)) b su s p := by
  obtain ⟨nm, f, ⟨m1, e1⟩, ⟨m2, e2, e3⟩, e4, e5⟩ := H
  exact ⟨nm, f, ⟨m1, up_tg e1 hz (by show ((3 : Nat), 0) ≠ (11, 0); decide)⟩, ⟨m2, up_tg e2 hz (by show ((0 : Nat), 6) ≠ (11, 0); decide), e3⟩, e4, e5.hw hz⟩
theorem PcR.hw {b k : Nat} {s : tRow} (hz : h z = some (hwE vq0 (iI 0) (iI 0))) (H : PcR G D h b s k) : PcR G D (t_up h z (hwE vq0 hv0 hz0)) b s k := by
  obtain ⟨q, ⟨d, e⟩, e2⟩ := H
  exact ⟨q, ⟨d, up_tg e hz (by show ((4 : Nat), 0) ≠ (11, 0); decide)⟩, e2.hw hz⟩
theorem GR.hw {a np : Nat} {s : tRow} (hz : h z = some (hwE vq0 (iI 0) (iI 0))) (H : GR G D M h a s np) : GR G D M (t_up h z (hwE vq0 hv0 hz0)) a s np := by
  obtain ⟨sv, ca, sa, pa, qa, fc, fs, fp, fq, pl, su, ⟨m1, e1⟩, ⟨d2, b2, f2, e2, e2'⟩, ⟨m3, e3, e3'⟩, ⟨m4, e4, e4'⟩, ⟨m5, e5⟩, e6, e7, m8, e8, e8'⟩ := H
  refine ⟨sv, ca, sa, pa, qa, fc, fs, fp, fq, pl, su, ⟨m1, up_tg e1 hz (by show ((2 : Nat), 0) ≠ (11, 0); decide)⟩, ⟨d2, b2, f2, up_tg e2 hz (by show ((4 : Nat), 6) ≠ (11, 0); decide), e2'⟩, ⟨m3, up_tg e3 hz (by show ((0 : Nat), 65) ≠ (11, 0); decide), e3'⟩, ⟨m4, up_tg e4 hz (by show ((1 : Nat), 129) ≠ (11, 0); decide), e4'⟩, ⟨m5, up_tg e5 hz (by show ((7 : Nat), 3) ≠ (11, 0); decide)⟩, fun p hp => ⟨(e6 p hp).1, (e6 p hp).2.hw hz⟩, e7, m8, up_tg e8 hz (by show ((8 : Nat), 33) ≠ (11, 0); decide), fun k hk' => ?_⟩
  obtain ⟨b, f1, f2⟩ := e8' k hk'
  exact ⟨b, f1, f2.hw hz⟩
theorem CH.hw (hz : h z = some (hwE vq0 (iI 0) (iI 0))) (H : CH G D h) : CH G D (t_up h z (hwE vq0 hv0 hz0)) := H.up hz (by show (11 : Nat) ≠ 18; decide) (fun w => by cases w)
theorem WD.hw {q : Nat} {l : List Int} (hz : h z = some (hwE vq0 (iI 0) (iI 0))) (W : WD D h q l) : WD D (t_up h z (hwE vq0 hv0 hz0)) q l := ⟨W.1.hw hz, W.2⟩
end HW
/-- two words with the same letters have one hash -/
theorem wrd_hash {inp : Nat → Int} {n p : Nat} {l : List Int} (h : wrd inp n p l = true) : hI (fun j => inp (tkF inp n p + j)) (tkT inp n p - tkF inp n p) = hI (fun j => l.getD j 0) l.length := by
  unfold wrd at h
  rw [Bool.and_eq_true, Bool.and_eq_true] at h
  have e := of_decide_eq_true h.2.1
  have a := al_iff.mp h.2.2
  rw [e]
  exact hI_cg fun j hj => of_decide_eq_true (a j hj)
section SW
variable {G : tG} {D M : Nat → Prop} {hs : tHS} {u xa ia n : Nat} {inp : Nat → Int} {tv : Value} {z : Nat}
/-- the present word's hash -/
theorem c_wHash {p : Nat} (hF : Fi hs) (k : TKc hs.1 u xa tv inp n p z) (h1 : tkK inp n p = 1) (hn : n ≤ 600) (hp : p ≤ n) : ∃ w vq0 hv hz va, z ≤ w ∧ hs.1 w = some (hwE vq0 (iI 0) (iI 0)) ∧ hs.1 u = some (pcl tv (tkT inp n p) (tkF inp n p) 0 va w xa) ∧ t_Ev (t_pg G) t_hd Y_J3_hashCode 0 ([some (.ref w), none], [], hs) = rI (hI (fun j => inp (tkF inp n p + j)) (tkT inp n p - tkF inp n p)) (t_up hs.1 w (hwE vq0 hv hz), hs.2) ∧ ST (fun q => z ≤ q) (t_up hs.1 w (hwE vq0 hv hz)) w (tkT inp n p - tkF inp n p) (fun j => inp (tkF inp n p + j)) ∧ Mx (fun q => z ≤ q) 0 0 hs (t_up hs.1 w (hwE vq0 hv hz), hs.2) := by
  obtain ⟨va, w, e1, -, e3⟩ := k
  have F := e3 h1
  have st := F.st
  obtain ⟨vq, g, f1, ⟨b1, b2⟩, f2, f3⟩ := F
  have hT := tkT_b (inp := inp) hp
  obtain ⟨hv, hz, eh⟩ := c_sHash (G := G) f1 f2 f3 (fun j hj => by have := tk_let h1 (j := tkF inp n p + j) (by omega) (by omega); omega) (by omega)
  rw [h1] at e1
  exact ⟨w, vq, hv, hz, va, b1, f1, e1, eh, st.hw f1, Mx.up hF f1 b1⟩
end SW
