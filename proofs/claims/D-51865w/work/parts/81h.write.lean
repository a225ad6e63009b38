/-! ===== the component: a game written ===== -/
section WR
variable {G : tG} {D M : Nat → Prop} {h : tAH} {a np : Nat} {s s' : tRow}
theorem ST.up {q n z : Nat} {f : Nat → Int} {e0 e : tEnt} (H : ST D h q n f) (hz : h z = some e0) (h1 : (tg e0).1 ≠ 11) (h2 : ∀ l, tg e0 ≠ (2, l + 1)) : ST D (t_up h z e) q n f := by
  obtain ⟨d, b, hv, hz', vq, e1, d2, b', g, e2, e3⟩ := H
  exact ⟨d, b, hv, hz', vq, up_tg e1 hz fun w => h1 (by rw [← w]; rfl), d2, b', g, up_tg e2 hz fun w => h2 n (by rw [← w]; rfl), e3⟩
theorem ST.cg {q n : Nat} {f g : Nat → Int} (H : ST D h q n f) (hfg : ∀ j, j < n → g j = f j) : ST D h q n g := by
  obtain ⟨d, b, hv, hz', vq, e1, d2, b', k, e2, e3⟩ := H
  exact ⟨d, b, hv, hz', vq, e1, d2, b', k, e2, fun j hj => by rw [hfg j hj]; exact e3 j hj⟩
theorem PL.upT {q z : Nat} {sh r x y : Int} {e0 e : tEnt} (H : PL G D h q sh r x y) (hz : h z = some e0) (h1 : tg e0 ≠ (5, 0)) : PL G D (t_up h z e) q sh r x y := ⟨H.1, up_tg H.2 hz fun w => h1 (by rw [← w]; rfl)⟩
theorem PcR.up {b k z : Nat} {e0 e : tEnt} (H : PcR G D h b s k) (hz : h z = some e0) (h1 : tg e0 ≠ (5, 0)) (h2 : tg e0 ≠ (4, 0)) : PcR G D (t_up h z e) b s k := by
  obtain ⟨q, ⟨d, e1⟩, e2⟩ := H
  exact ⟨q, ⟨d, up_tg e1 hz fun w => h2 (by rw [← w]; rfl)⟩, e2.upT hz h1⟩
theorem PcR.cg {b k : Nat} (H : PcR G D h b s k) (hs : ∀ i, i < 6 → s' (pcI k i) = s (pcI k i)) : PcR G D h b s' k := by
  obtain ⟨q, ⟨d, e1⟩, e2⟩ := H
  refine ⟨q, ⟨d, ?_⟩, ?_⟩
  · rw [hs 4 (by decide), hs 5 (by decide)]; exact e1
  · rw [hs 0 (by decide), hs 1 (by decide), hs 2 (by decide), hs 3 (by decide)]; exact e2
theorem PlR.up {b su p z : Nat} {e0 e : tEnt} (H : PlR D M h b su s p) (hz : h z = some e0) (hb : b ≠ z) (hsu : su ≠ z) (h1 : (tg e0).1 ≠ 11) (h2 : ∀ l, tg e0 ≠ (2, l + 1)) : PlR D M (t_up h z e) b su s p := by
  obtain ⟨nm, f, ⟨m1, e1⟩, ⟨m2, e2, e3⟩, e4, e5⟩ := H
  exact ⟨nm, f, ⟨m1, (t_up_n hb).trans e1⟩, ⟨m2, (t_up_n hsu).trans e2, e3⟩, e4, e5.up hz h1 h2⟩
theorem PlR.upT {b su p z : Nat} {e0 e : tEnt} (H : PlR D M h b su s p) (hz : h z = some e0) (h0 : tg e0 ≠ (3, 0)) (h0' : tg e0 ≠ (0, 6)) (h1 : (tg e0).1 ≠ 11) (h2 : ∀ l, tg e0 ≠ (2, l + 1)) : PlR D M (t_up h z e) b su s p := by
  obtain ⟨nm, f, ⟨m1, e1⟩, ⟨m2, e2, e3⟩, e4, e5⟩ := id H
  exact H.up hz (ne_tg e1 hz fun w => h0 (by rw [← w]; rfl)) (ne_tg e2 hz fun w => h0' (by rw [← w]; rfl)) h1 h2
theorem PlR.cg {b su p : Nat} (H : PlR D M h b su s p) (hs : ∀ w : Int, 0 ≤ w → w ≤ 13 → ofS s' p w = ofS s p w) : PlR D M h b su s' p := by
  obtain ⟨nm, f, ⟨m1, e1⟩, ⟨m2, e2, e3⟩, e4, e5⟩ := H
  refine ⟨nm, f, ⟨m1, ?_⟩, ⟨m2, e2, fun k hk => ?_⟩, ?_, ?_⟩
  · rw [hs 1 (by decide) (by decide), hs 0 (by decide) (by decide)]; exact e1
  · rw [hs _ (by omega) (by omega)]; exact e3 k hk
  · rw [hs 7 (by decide) (by decide)]; exact e4
  · rw [hs 7 (by decide) (by decide)]; exact e5.cg fun j hj => hs _ (by omega) (by omega)
theorem SV.up {v z : Nat} {e0 e : tEnt} (H : SV G D h v) (hz : h z = some e0) (h1 : (tg e0).1 ≠ 4) : SV G D (t_up h z e) v := by
  obtain ⟨d, b, f, e1, e2⟩ := H
  exact ⟨d, b, f, up_tg e1 hz fun w => h1 (by rw [← w]; rfl), e2⟩
theorem ofS_fU {p w v : Int} {i : Nat} (h1 : (plI p w).toNat ≠ i) : ofS (fU s i v) p w = ofS s p w := fU_n h1
/-- a cell of the game set -/
theorem GR.wCell (H : GR G D M h a s np) (hnp : np ≤ 2) {j : Nat} (hj : j < 64) {v : Int} : ∃ ca fc, gfR h (.ref a) 2 3 = some (some ca) ∧ h ca = some (true, 0, .inr (64, .inl fc)) ∧ M ca ∧ GR G D M (t_up h ca (true, 0, .inr (64, .inl (upd fc j (iI (enc v)))))) a (fU s (33 + j) v) np := by
  obtain ⟨sv, ca, sa, pa, qa, fc, fs, fp, fq, pl, su, ⟨m1, e1⟩, e2, ⟨m3, e3, e3'⟩, ⟨m4, e4, e4'⟩, ⟨m5, e5⟩, e6, e7, m8, e8, e8'⟩ := H
  refine ⟨ca, fc, gfR_at e1 rfl, e3, m3, sv, ca, sa, pa, qa, upd fc j (iI (enc v)), fs, fp, fq, pl, su, ⟨m1, ?_⟩, e2.up e3 (by show (0:Nat) ≠ 4; decide), ⟨m3, t_up_s, fun i hi => ?_⟩, ⟨m4, up_tg e4 e3 (by show ((1:Nat), 129) ≠ (0, 65); decide), fun i hi => ?_⟩, ⟨m5, up_tg e5 e3 (by show ((7:Nat), 3) ≠ (0, 65); decide)⟩, fun p hp => ⟨(e6 p hp).1, ?_⟩, e7, m8, up_tg e8 e3 (by show ((8:Nat), 33) ≠ (0, 65); decide), fun k hk => ?_⟩
  · simp (disch := omega) only [fU_n]
    exact up_tg e1 e3 (by show ((2:Nat), 0) ≠ (0, 65); decide)
  · by_cases c : i = j
    · rw [c, upd_s, fU_s]
    · rw [upd_n c, fU_n (by omega)]; exact e3' i hi
  · rw [fU_n (by omega)]; exact e4' i hi
  · exact ((e6 p hp).2.upT e3 (by show ((0:Nat), 65) ≠ (3, 0); decide) (by show ((0:Nat), 65) ≠ (0, 6); decide) (by show (0:Nat) ≠ 11; decide) (fun l (w : ((0:Nat), 65) = (2, l + 1)) => by cases w)).cg fun w h1 h2 => ofS_fU (by unfold plI; omega)
  · rw [fU_n (by omega)] at hk
    obtain ⟨b, f1, f2⟩ := e8' k hk
    exact ⟨b, f1, (f2.up e3 (by show ((0:Nat), 65) ≠ (5, 0); decide) (by show ((0:Nat), 65) ≠ (4, 0); decide)).cg fun i hi => fU_n (by unfold pcI; omega)⟩
/-- a strap of the game set -/
theorem GR.wStrap (H : GR G D M h a s np) (hnp : np ≤ 2) {j : Nat} (hj : j < 128) : ∃ sa fs, gfR h (.ref a) 2 4 = some (some sa) ∧ h sa = some (true, 1, .inr (128, .inl fs)) ∧ M sa ∧ GR G D M (t_up h sa (true, 1, .inr (128, .inl (upd fs j (iI 1))))) a (fU s (97 + j) 1) np := by
  obtain ⟨sv, ca, sa, pa, qa, fc, fs, fp, fq, pl, su, ⟨m1, e1⟩, e2, ⟨m3, e3, e3'⟩, ⟨m4, e4, e4'⟩, ⟨m5, e5⟩, e6, e7, m8, e8, e8'⟩ := H
  refine ⟨sa, fs, gfR_at e1 rfl, e4, m4, sv, ca, sa, pa, qa, fc, upd fs j (iI 1), fp, fq, pl, su, ⟨m1, ?_⟩, e2.up e4 (by show (1:Nat) ≠ 4; decide), ⟨m3, up_tg e3 e4 (by show ((0:Nat), 65) ≠ (1, 129); decide), fun i hi => ?_⟩, ⟨m4, t_up_s, fun i hi => ?_⟩, ⟨m5, up_tg e5 e4 (by show ((7:Nat), 3) ≠ (1, 129); decide)⟩, fun p hp => ⟨(e6 p hp).1, ?_⟩, e7, m8, up_tg e8 e4 (by show ((8:Nat), 33) ≠ (1, 129); decide), fun k hk => ?_⟩
  · simp (disch := omega) only [fU_n]
    exact up_tg e1 e4 (by show ((2:Nat), 0) ≠ (1, 129); decide)
  · rw [fU_n (by omega)]; exact e3' i hi
  · by_cases c : i = j
    · rw [c, upd_s, fU_s]; rfl
    · rw [upd_n c, fU_n (by omega)]; exact e4' i hi
  · exact ((e6 p hp).2.upT e4 (by show ((1:Nat), 129) ≠ (3, 0); decide) (by show ((1:Nat), 129) ≠ (0, 6); decide) (by show (1:Nat) ≠ 11; decide) (fun l (w : ((1:Nat), 129) = (2, l + 1)) => by cases w)).cg fun w h1 h2 => ofS_fU (by unfold plI; omega)
  · rw [fU_n (by omega)] at hk
    obtain ⟨b, f1, f2⟩ := e8' k hk
    exact ⟨b, f1, (f2.up e4 (by show ((1:Nat), 129) ≠ (5, 0); decide) (by show ((1:Nat), 129) ≠ (4, 0); decide)).cg fun i hi => fU_n (by unfold pcI; omega)⟩
/-- passes and turn set -/
theorem GR.wTurn (H : GR G D M h a s np) (hnp : np ≤ 2) {v t : Int} : ∃ fl, h a = some (true, 2, .inl fl) ∧ fl.length = 11 ∧ M a ∧ GR G D M (t_up h a (true, 2, .inl ((fl.set 10 (.int (iI v))).set 9 (.int (iI t))))) a (fU (fU s 3 v) 2 t) np := by
  obtain ⟨sv, ca, sa, pa, qa, fc, fs, fp, fq, pl, su, ⟨m1, e1⟩, e2, ⟨m3, e3, e3'⟩, ⟨m4, e4, e4'⟩, ⟨m5, e5⟩, e6, e7, m8, e8, e8'⟩ := H
  refine ⟨_, e1, rfl, m1, sv, ca, sa, pa, qa, fc, fs, fp, fq, pl, su, ⟨m1, ?_⟩, e2.up e1 (by show (2:Nat) ≠ 4; decide), ⟨m3, up_tg e3 e1 (by show ((0:Nat), 65) ≠ (2, 0); decide), fun i hi => ?_⟩, ⟨m4, up_tg e4 e1 (by show ((1:Nat), 129) ≠ (2, 0); decide), fun i hi => ?_⟩, ⟨m5, up_tg e5 e1 (by show ((7:Nat), 3) ≠ (2, 0); decide)⟩, fun p hp => ⟨(e6 p hp).1, ?_⟩, e7, m8, up_tg e8 e1 (by show ((8:Nat), 33) ≠ (2, 0); decide), fun k hk => ?_⟩
  · rw [t_up_s]
    simp (disch := decide) only [fU_n, fU_s]
    (try rfl)
  · rw [fU_n (by omega), fU_n (by omega)]; exact e3' i hi
  · rw [fU_n (by omega), fU_n (by omega)]; exact e4' i hi
  · exact ((e6 p hp).2.upT e1 (by show ((2:Nat), 0) ≠ (3, 0); decide) (by show ((2:Nat), 0) ≠ (0, 6); decide) (by show (2:Nat) ≠ 11; decide) (fun l (w : ((2:Nat), 0) = (2, l + 1)) => by cases w)).cg fun w h1 h2 => (ofS_fU (by unfold plI; omega)).trans (ofS_fU (by unfold plI; omega))
  · rw [fU_n (by decide), fU_n (by decide)] at hk
    obtain ⟨b, f1, f2⟩ := e8' k hk
    exact ⟨b, f1, (f2.up e1 (by show ((2:Nat), 0) ≠ (5, 0); decide) (by show ((2:Nat), 0) ≠ (4, 0); decide)).cg fun i hi => (fU_n (by unfold pcI; omega)).trans (fU_n (by unfold pcI; omega))⟩
end WR
