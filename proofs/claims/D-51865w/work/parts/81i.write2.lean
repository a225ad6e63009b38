/-! ===== the component: players and pieces written ===== -/
theorem fU_comm {f : Nat → Int} {i j : Nat} {v w : Int} (h : i ≠ j) : fU (fU f i v) j w = fU (fU f j w) i v := by
  funext k
  unfold fU
  by_cases c1 : k = j
  · by_cases c2 : k = i
    · exact absurd (c2.symm.trans c1) h
    · simp [c1, Ne.symm h]
  · simp [c1]
theorem fl_at {fl : List Value} {k : Nat} {v : Value} (h : fl[k]? = some v) : k < fl.length := (List.getElem?_eq_some_iff.mp h).1
section WR2
variable {G : tG} {D M : Nat → Prop} {h : tAH} {a np : Nat} {s s' : tRow}
/-- a player's cell written -/
theorem GR.wPl (H : GR G D M h a s np) (hnp : np ≤ 2) {p : Int} (h0 : 0 ≤ p) (hp : p < np) : ∃ pa b fl, gfR h (.ref a) 2 5 = some (some pa) ∧ ldR h (.ref pa) (iI p) = some (some b) ∧ h b = some (true, 3, .inl fl) ∧ fl[2]? = some (.int (iI (ofS s p 1))) ∧ fl[3]? = some (.int (iI (ofS s p 0))) ∧ M b ∧
    (∀ v, GR G D M (t_up h b (true, 3, .inl (fl.set 2 (.int (iI v))))) a (fU s (plI p 1).toNat v) np) ∧ (∀ v, GR G D M (t_up h b (true, 3, .inl (fl.set 3 (.int (iI v))))) a (fU s (plI p 0).toNat v) np) := by
  obtain ⟨sv, ca, sa, pa, qa, fc, fs, fp, fq, pl, su, ⟨m1, e1⟩, e2, ⟨m3, e3, e3'⟩, ⟨m4, e4, e4'⟩, ⟨m5, e5⟩, e6, e7, m8, e8, e8'⟩ := H
  obtain ⟨g1, nm, f, ⟨g2, g3⟩, ⟨g4, g5, g6⟩, g7, g8⟩ := e6 p.toNat (by omega)
  rw [Int.toNat_of_nonneg h0] at g3 g6 g7 g8
  have gen : ∀ (w v : Int) (l : List Value), (w = 0 ∨ w = 1) → l = [.ref nm, .ref (su p.toNat), .int (iI (ofS (fU s (plI p w).toNat v) p 1)), .int (iI (ofS (fU s (plI p w).toNat v) p 0))] → GR G D M (t_up h (pl p.toNat) (true, 3, .inl l)) a (fU s (plI p w).toNat v) np := fun w v l hw hl => by
    have hk : ∀ j, (j < 5 ∨ 7 + 26 ≤ j) → fU s (plI p w).toNat v j = s j := fun j hj => fU_n (by unfold plI; omega)
    refine ⟨sv, ca, sa, pa, qa, fc, fs, fp, fq, pl, su, ⟨m1, ?_⟩, e2.up g3 (by show (3:Nat) ≠ 4; decide), ⟨m3, up_tg e3 g3 (by show ((0:Nat), 65) ≠ (3, 0); decide), fun i hi => ?_⟩, ⟨m4, up_tg e4 g3 (by show ((1:Nat), 129) ≠ (3, 0); decide), fun i hi => ?_⟩, ⟨m5, up_tg e5 g3 (by show ((7:Nat), 3) ≠ (3, 0); decide)⟩, fun p' hp' => ⟨(e6 p' hp').1, ?_⟩, e7, m8, up_tg e8 g3 (by show ((8:Nat), 33) ≠ (3, 0); decide), fun k hk' => ?_⟩
    · rw [hk 0 (by omega), hk 1 (by omega), hk 2 (by omega), hk 3 (by omega), hk 4 (by omega)]
      exact up_tg e1 g3 (by show ((2:Nat), 0) ≠ (3, 0); decide)
    · rw [hk _ (by omega)]; exact e3' i hi
    · rw [hk _ (by omega)]; exact e4' i hi
    · by_cases c : p' = p.toNat
      · subst c
        rw [hl]
        have ho : ∀ w' : Int, 2 ≤ w' → w' ≤ 13 → ofS (fU s (plI p w).toNat v) p w' = ofS s p w' := fun w' h1 h2 => ofS_fU (by unfold plI; omega)
        refine ⟨nm, f, ?_, ⟨g4, up_tg g5 g3 (by show ((0:Nat), 6) ≠ (3, 0); decide), fun k hk5 => ?_⟩, ?_, ?_⟩
        · rw [Int.toNat_of_nonneg h0]; exact ⟨g2, t_up_s⟩
        · rw [Int.toNat_of_nonneg h0, ho _ (by omega) (by omega)]; exact g6 k hk5
        · rw [Int.toNat_of_nonneg h0, ho 7 (by decide) (by decide)]; exact g7
        · rw [Int.toNat_of_nonneg h0, ho 7 (by decide) (by decide)]
          exact (g8.up g3 (by show (3:Nat) ≠ 11; decide) (fun l (w : ((3:Nat), 0) = (2, l + 1)) => by cases w)).cg fun j hj => ho _ (by omega) (by omega)
      · have hne := e7 (by omega)
        have hb : pl p' ≠ pl p.toNat := by
          rcases (show (p' = 0 ∧ p.toNat = 1) ∨ (p' = 1 ∧ p.toNat = 0) by omega) with ⟨q1, q2⟩ | ⟨q1, q2⟩
          · rw [q1, q2]; exact hne.1
          · rw [q1, q2]; exact hne.1.symm
        obtain ⟨nm', f', ⟨n1, q1⟩, ⟨n2, q2, q3⟩, q4, q5⟩ := id (e6 p' hp').2
        exact ((e6 p' hp').2.up g3 hb (ne_tg q2 g3 (by show ((0:Nat), 6) ≠ (3, 0); decide)) (by show (3:Nat) ≠ 11; decide) (fun l (w : ((3:Nat), 0) = (2, l + 1)) => by cases w)).cg fun w' h1 h2 => ofS_fU (by unfold plI; omega)
    · rw [hk 4 (by omega)] at hk'
      obtain ⟨b, f1, f2⟩ := e8' k hk'
      exact ⟨b, f1, (f2.up g3 (by show ((3:Nat), 0) ≠ (5, 0); decide) (by show ((3:Nat), 0) ≠ (4, 0); decide)).cg fun i hi => hk _ (by unfold pcI; omega)⟩
  refine ⟨pa, pl p.toNat, _, gfR_at e1 rfl, by rw [ldR_at e5 (by decide) h0 (by omega) (by decide), g1], g3, rfl, rfl, g2, fun v => gen 1 v _ (Or.inr rfl) ?_, fun v => gen 0 v _ (Or.inl rfl) ?_⟩
  · rw [show ofS (fU s (plI p 1).toNat v) p 1 = v from fU_s, show ofS (fU s (plI p 1).toNat v) p 0 = ofS s p 0 from ofS_fU (by unfold plI; omega)]
    rfl
  · rw [show ofS (fU s (plI p 0).toNat v) p 0 = v from fU_s, show ofS (fU s (plI p 0).toNat v) p 1 = ofS s p 1 from ofS_fU (by unfold plI; omega)]
    rfl
/-- a player's supply written -/
theorem GR.wSup (H : GR G D M h a s np) (hnp : np ≤ 2) {p k : Int} (h0 : 0 ≤ p) (hp : p < np) (hk0 : 0 ≤ k) (hk5 : k < 5) : ∃ pa b su f, gfR h (.ref a) 2 5 = some (some pa) ∧ ldR h (.ref pa) (iI p) = some (some b) ∧ gfR h (.ref b) 3 1 = some (some su) ∧ h su = some (true, 0, .inr (5, .inl f)) ∧ f k.toNat = iI (ofS s p (2 + k)) ∧ M su ∧
    ∀ v, GR G D M (t_up h su (true, 0, .inr (5, .inl (upd f k.toNat (iI v))))) a (fU s (plI p (2 + k)).toNat v) np := by
  obtain ⟨sv, ca, sa, pa, qa, fc, fs, fp, fq, pl, su, ⟨m1, e1⟩, e2, ⟨m3, e3, e3'⟩, ⟨m4, e4, e4'⟩, ⟨m5, e5⟩, e6, e7, m8, e8, e8'⟩ := H
  obtain ⟨g1, nm, f, ⟨g2, g3⟩, ⟨g4, g5, g6⟩, g7, g8⟩ := e6 p.toNat (by omega)
  rw [Int.toNat_of_nonneg h0] at g3 g6 g7 g8
  refine ⟨pa, pl p.toNat, su p.toNat, f, gfR_at e1 rfl, by rw [ldR_at e5 (by decide) h0 (by omega) (by decide), g1], gfR_at g3 rfl, g5, by rw [g6 _ (by omega), Int.toNat_of_nonneg hk0], g4, fun v => ?_⟩
  have hk : ∀ j, (j < 5 ∨ 7 + 26 ≤ j) → fU s (plI p (2 + k)).toNat v j = s j := fun j hj => fU_n (by unfold plI; omega)
  refine ⟨sv, ca, sa, pa, qa, fc, fs, fp, fq, pl, su, ⟨m1, ?_⟩, e2.up g5 (by show (0:Nat) ≠ 4; decide), ⟨m3, up_tg e3 g5 (by show ((0:Nat), 65) ≠ (0, 6); decide), fun i hi => ?_⟩, ⟨m4, up_tg e4 g5 (by show ((1:Nat), 129) ≠ (0, 6); decide), fun i hi => ?_⟩, ⟨m5, up_tg e5 g5 (by show ((7:Nat), 3) ≠ (0, 6); decide)⟩, fun p' hp' => ⟨(e6 p' hp').1, ?_⟩, e7, m8, up_tg e8 g5 (by show ((8:Nat), 33) ≠ (0, 6); decide), fun k hk' => ?_⟩
  · rw [hk 0 (by omega), hk 1 (by omega), hk 2 (by omega), hk 3 (by omega), hk 4 (by omega)]
    exact up_tg e1 g5 (by show ((2:Nat), 0) ≠ (0, 6); decide)
  · rw [hk _ (by omega)]; exact e3' i hi
  · rw [hk _ (by omega)]; exact e4' i hi
  · by_cases c : p' = p.toNat
    · subst c
      refine ⟨nm, upd f k.toNat (iI v), ?_, ⟨g4, t_up_s, fun i hi => ?_⟩, ?_, ?_⟩
      · rw [Int.toNat_of_nonneg h0, show ofS (fU s (plI p (2 + k)).toNat v) p 1 = ofS s p 1 from ofS_fU (by unfold plI; omega), show ofS (fU s (plI p (2 + k)).toNat v) p 0 = ofS s p 0 from ofS_fU (by unfold plI; omega)]
        exact ⟨g2, up_tg g3 g5 (by show ((3:Nat), 0) ≠ (0, 6); decide)⟩
      · rw [Int.toNat_of_nonneg h0]
        by_cases c : i = k.toNat
        · rw [c, upd_s, Int.toNat_of_nonneg hk0]; exact congrArg iI fU_s.symm
        · rw [upd_n c, g6 i hi, show ofS (fU s (plI p (2 + k)).toNat v) p (2 + (i : Int)) = ofS s p (2 + (i : Int)) from ofS_fU (by unfold plI; omega)]
      · rw [Int.toNat_of_nonneg h0, show ofS (fU s (plI p (2 + k)).toNat v) p 7 = ofS s p 7 from ofS_fU (by unfold plI; omega)]; exact g7
      · rw [Int.toNat_of_nonneg h0, show ofS (fU s (plI p (2 + k)).toNat v) p 7 = ofS s p 7 from ofS_fU (by unfold plI; omega)]
        exact (g8.up g5 (by show (0:Nat) ≠ 11; decide) (fun l (w : ((0:Nat), 6) = (2, l + 1)) => by cases w)).cg fun j hj => ofS_fU (by unfold plI; omega)
    · have hne := e7 (by omega)
      have hb : su p' ≠ su p.toNat := by
        rcases (show (p' = 0 ∧ p.toNat = 1) ∨ (p' = 1 ∧ p.toNat = 0) by omega) with ⟨q1, q2⟩ | ⟨q1, q2⟩
        · rw [q1, q2]; exact hne.2
        · rw [q1, q2]; exact hne.2.symm
      obtain ⟨nm', f', ⟨n1, q1⟩, ⟨n2, q2, q3⟩, q4, q5⟩ := id (e6 p' hp').2
      exact ((e6 p' hp').2.up g5 (ne_tg q1 g5 (by show ((3:Nat), 0) ≠ (0, 6); decide)) hb (by show (0:Nat) ≠ 11; decide) (fun l (w : ((0:Nat), 6) = (2, l + 1)) => by cases w)).cg fun w' h1 h2 => ofS_fU (by unfold plI; omega)
  · rw [hk 4 (by omega)] at hk'
    obtain ⟨b, f1, f2⟩ := e8' k hk'
    exact ⟨b, f1, (f2.up g5 (by show ((0:Nat), 6) ≠ (5, 0); decide) (by show ((0:Nat), 6) ≠ (4, 0); decide)).cg fun i hi => hk _ (by unfold pcI; omega)⟩
/-- a piece's numbers in the row -/
def pcW (s : tRow) (k : Nat) (sh r x y o pt : Int) : tRow := fU (fU (fU (fU (fU (fU s (pcI k 0) sh) (pcI k 1) r) (pcI k 2) x) (pcI k 3) y) (pcI k 4) o) (pcI k 5) pt
theorem pcW_n {s : tRow} {k j : Nat} {sh r x y o pt : Int} (hj : j < pcI k 0 ∨ pcI k 5 < j) : pcW s k sh r x y o pt j = s j := by
  unfold pcW
  unfold pcI at *
  simp (disch := omega) only [fU_n]
/-- a piece put down -/
theorem GR.wPc (H : GR G D M h a s np) (hnp : np ≤ 2) (h4 : 0 ≤ s 4) (h4' : s 4 ≤ 31) {b q : Nat} {sh r x y o pt : Int} (hb : h b = some (true, 4, .inl [.ref q, .int (iI o), .int (iI pt)])) (hDb : D b) (P : PL G D h q sh r x y) : ∃ qa fq fl, gfR h (.ref a) 2 7 = some (some qa) ∧ h qa = some (true, 8, .inr (32, .inr (.inr (.inr (.inr fq))))) ∧ M qa ∧ h a = some (true, 2, .inl fl) ∧ fl.length = 11 ∧ fl[8]? = some (.int (iI (s 4))) ∧ M a ∧ a ≠ qa ∧
    GR G D M (t_up (t_up h qa (true, 8, .inr (32, .inr (.inr (.inr (.inr (va_up fq (s 4).toNat (some b)))))))) a (true, 2, .inl (fl.set 8 (.int (iI (s 4 + 1)))))) a (fU (pcW s (s 4).toNat sh r x y o pt) 4 (s 4 + 1)) np := by
  obtain ⟨sv, ca, sa, pa, qa, fc, fs, fp, fq, pl, su, ⟨m1, e1⟩, e2, ⟨m3, e3, e3'⟩, ⟨m4, e4, e4'⟩, ⟨m5, e5⟩, e6, e7, m8, e8, e8'⟩ := H
  have hne : a ≠ qa := ne_tg e1 e8 (by show ((2:Nat), 0) ≠ (8, 33); decide)
  have e1' := (t_up_n (h := h) (e := (true, 8, .inr (32, .inr (.inr (.inr (.inr (va_up fq (s 4).toNat (some b)))))))) hne).trans e1
  refine ⟨qa, fq, _, gfR_at e1 rfl, e8, m8, e1, rfl, rfl, m1, hne, ?_⟩
  have hk : ∀ j, j ≠ 4 → (j < pcI (s 4).toNat 0 ∨ pcI (s 4).toNat 5 < j) → fU (pcW s (s 4).toNat sh r x y o pt) 4 (s 4 + 1) j = s j := fun j h1 h2 => (fU_n h1).trans (pcW_n h2)
  have t1 : tg (true, 8, (.inr (32, .inr (.inr (.inr (.inr fq)))) : List Value ⊕ vp_A)) = (8, 33) := rfl
  have two : ∀ {z : Nat} {e : tEnt}, h z = some e → tg e ≠ (8, 33) → tg e ≠ (2, 0) → (t_up (t_up h qa (true, 8, .inr (32, .inr (.inr (.inr (.inr (va_up fq (s 4).toNat (some b)))))))) a (true, 2, .inl ([.ref sv, .int (iI (s 0)), .int (iI (s 1)), .ref ca, .ref sa, .ref pa, .int (iI (np : Int)), .ref qa, .int (iI (s 4)), .int (iI (s 2)), .int (iI (s 3))].set 8 (.int (iI (s 4 + 1)))))) z = some e := fun hz h1 h2 => up_tg (up_tg hz e8 h1) e1' h2
  refine ⟨sv, ca, sa, pa, qa, fc, fs, fp, va_up fq (s 4).toNat (some b), pl, su, ⟨m1, ?_⟩, (e2.up e8 (by show (8:Nat) ≠ 4; decide)).up e1' (by show (2:Nat) ≠ 4; decide), ⟨m3, two e3 (by show ((0:Nat), 65) ≠ (8, 33); decide) (by show ((0:Nat), 65) ≠ (2, 0); decide), fun i hi => ?_⟩, ⟨m4, two e4 (by show ((1:Nat), 129) ≠ (8, 33); decide) (by show ((1:Nat), 129) ≠ (2, 0); decide), fun i hi => ?_⟩, ⟨m5, two e5 (by show ((7:Nat), 3) ≠ (8, 33); decide) (by show ((7:Nat), 3) ≠ (2, 0); decide)⟩, fun p hp => ⟨(e6 p hp).1, ?_⟩, e7, m8, (t_up_n hne.symm).trans t_up_s, fun k hk' => ?_⟩
  · rw [hk 0 (by decide) (by unfold pcI; omega), hk 1 (by decide) (by unfold pcI; omega), hk 2 (by decide) (by unfold pcI; omega), hk 3 (by decide) (by unfold pcI; omega), fU_s]
    exact t_up_s
  · rw [hk _ (by omega) (by unfold pcI; omega)]; exact e3' i hi
  · rw [hk _ (by omega) (by unfold pcI; omega)]; exact e4' i hi
  · exact (((e6 p hp).2.upT e8 (by show ((8:Nat), 33) ≠ (3, 0); decide) (by show ((8:Nat), 33) ≠ (0, 6); decide) (by show (8:Nat) ≠ 11; decide) (fun l (w : ((8:Nat), 33) = (2, l + 1)) => by cases w)).upT e1' (by show ((2:Nat), 0) ≠ (3, 0); decide) (by show ((2:Nat), 0) ≠ (0, 6); decide) (by show (2:Nat) ≠ 11; decide) (fun l (w : ((2:Nat), 0) = (2, l + 1)) => by cases w)).cg fun w h1 h2 => hk _ (by unfold plI; omega) (by unfold plI pcI; omega)
  · rw [fU_s] at hk'
    by_cases c : k = (s 4).toNat
    · refine ⟨b, by rw [c, va_up_s], q, ⟨hDb, ?_⟩, ?_⟩
      · rw [c]
        have v4 : fU (pcW s (s 4).toNat sh r x y o pt) 4 (s 4 + 1) (pcI (s 4).toNat 4) = o := by
          rw [fU_n (by unfold pcI; omega)]; unfold pcW; unfold pcI; simp (disch := omega) only [fU_n, fU_s]
        have v5 : fU (pcW s (s 4).toNat sh r x y o pt) 4 (s 4 + 1) (pcI (s 4).toNat 5) = pt := by
          rw [fU_n (by unfold pcI; omega)]; unfold pcW; unfold pcI; simp (disch := omega) only [fU_n, fU_s]
        rw [v4, v5]
        exact two hb (by show ((4:Nat), 0) ≠ (8, 33); decide) (by show ((4:Nat), 0) ≠ (2, 0); decide)
      · rw [c]
        have v0 : fU (pcW s (s 4).toNat sh r x y o pt) 4 (s 4 + 1) (pcI (s 4).toNat 0) = sh := by
          rw [fU_n (by unfold pcI; omega)]; unfold pcW; unfold pcI; simp (disch := omega) only [fU_n, fU_s]
        have v1 : fU (pcW s (s 4).toNat sh r x y o pt) 4 (s 4 + 1) (pcI (s 4).toNat 1) = r := by
          rw [fU_n (by unfold pcI; omega)]; unfold pcW; unfold pcI; simp (disch := omega) only [fU_n, fU_s]
        have v2 : fU (pcW s (s 4).toNat sh r x y o pt) 4 (s 4 + 1) (pcI (s 4).toNat 2) = x := by
          rw [fU_n (by unfold pcI; omega)]; unfold pcW; unfold pcI; simp (disch := omega) only [fU_n, fU_s]
        have v3 : fU (pcW s (s 4).toNat sh r x y o pt) 4 (s 4 + 1) (pcI (s 4).toNat 3) = y := by
          rw [fU_n (by unfold pcI; omega)]; unfold pcW; unfold pcI; simp (disch := omega) only [fU_n, fU_s]
        rw [v0, v1, v2, v3]
        exact ⟨P.1, two P.2 (by show ((5:Nat), 0) ≠ (8, 33); decide) (by show ((5:Nat), 0) ≠ (2, 0); decide)⟩
    · obtain ⟨b', f1, f2⟩ := e8' k (by omega)
      exact ⟨b', by rw [va_up_n c]; exact f1, ((f2.up e8 (by show ((8:Nat), 33) ≠ (5, 0); decide) (by show ((8:Nat), 33) ≠ (4, 0); decide)).up e1' (by show ((2:Nat), 0) ≠ (5, 0); decide) (by show ((2:Nat), 0) ≠ (4, 0); decide)).cg fun i hi => hk _ (by unfold pcI; omega) (by unfold pcI; omega)⟩
end WR2
