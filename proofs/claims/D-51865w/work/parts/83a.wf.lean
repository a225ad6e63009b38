/-! ===== what is true of every row of a game ===== -/
theorem sm_upd {f g : Nat → Int} {n i : Nat} (hi : i < n) (h : ∀ k, k < n → k ≠ i → g k = f k) : sm g n = sm f n + (g i - f i) := by
  induction n with
  | zero => exact absurd hi (Nat.not_lt_zero i)
  | succ n ih =>
    rw [sm, sm]
    by_cases c : i = n
    · subst c
      rw [sm_congr (fun k hk => h k (by omega) (by omega))]
      omega
    · rw [ih (by omega) (fun k hk hn => h k (by omega) hn), h n (by omega) (fun e => c e.symm)]
      omega
/-- covered cells -/
def cvN (s : tRow) : Int := sm (fun y => sm (fun x => bB (decide (2 ≤ cI s x y))) (s 0).toNat) (s 1).toNat
/-- the pieces' cells, and their points -/
def szN (s : tRow) : Int := sm (fun k => shN (s (pcI k 0))) (s 4).toNat
def ptN (s : tRow) : Int := sm (fun k => s (pcI k 5)) (s 4).toNat
/-- one piece's numbers -/
abbrev PcB (s : tRow) (k : Nat) : Prop := (0 ≤ s (pcI k 0) ∧ s (pcI k 0) ≤ 4) ∧ (0 ≤ s (pcI k 1) ∧ s (pcI k 1) ≤ 3) ∧ (0 ≤ s (pcI k 2) ∧ s (pcI k 2) < s 0) ∧ (0 ≤ s (pcI k 3) ∧ s (pcI k 3) < s 1) ∧ (0 ≤ s (pcI k 4) ∧ s (pcI k 4) ≤ 1) ∧ 0 ≤ s (pcI k 5) ∧ s (pcI k 5) ≤ 68
abbrev BdP (s : tRow) : Prop := (3 ≤ s 0 ∧ s 0 ≤ 8) ∧ (3 ≤ s 1 ∧ s 1 ≤ 8) ∧ (0 ≤ s 4 ∧ s 4 ≤ 32) ∧ (∀ j, 33 ≤ j → j < 97 → 0 ≤ s j ∧ s j < 2 + s 4) ∧ (∀ k : Nat, (k : Int) < s 4 → PcB s k) ∧ (∀ k : Nat, (k : Int) < s 4 → ∀ j, j < shN (s (pcI k 0)) → inB s (cX (s (pcI k 0)) (s (pcI k 1)) (s (pcI k 2)) j) (cY (s (pcI k 0)) (s (pcI k 1)) (s (pcI k 3)) j) = true ∧ cI s (cX (s (pcI k 0)) (s (pcI k 1)) (s (pcI k 2)) j) (cY (s (pcI k 0)) (s (pcI k 1)) (s (pcI k 3)) j) = 2 + (k : Int)) ∧ (cvN s = szN s)
theorem BdP.d0 {s : tRow} (zz : BdP s) : 3 ≤ s 0 ∧ s 0 ≤ 8 := zz.1
theorem BdP.d1 {s : tRow} (zz : BdP s) : 3 ≤ s 1 ∧ s 1 ≤ 8 := zz.2.1
theorem BdP.np {s : tRow} (zz : BdP s) : 0 ≤ s 4 ∧ s 4 ≤ 32 := zz.2.2.1
theorem BdP.ce {s : tRow} (zz : BdP s) : ∀ j, 33 ≤ j → j < 97 → 0 ≤ s j ∧ s j < 2 + s 4 := zz.2.2.2.1
theorem BdP.pc {s : tRow} (zz : BdP s) : ∀ k : Nat, (k : Int) < s 4 → PcB s k := zz.2.2.2.2.1
theorem BdP.pd {s : tRow} (zz : BdP s) : ∀ k : Nat, (k : Int) < s 4 → ∀ j, j < shN (s (pcI k 0)) → inB s (cX (s (pcI k 0)) (s (pcI k 1)) (s (pcI k 2)) j) (cY (s (pcI k 0)) (s (pcI k 1)) (s (pcI k 3)) j) = true ∧ cI s (cX (s (pcI k 0)) (s (pcI k 1)) (s (pcI k 2)) j) (cY (s (pcI k 0)) (s (pcI k 1)) (s (pcI k 3)) j) = 2 + (k : Int) := zz.2.2.2.2.2.1
theorem BdP.cv {s : tRow} (zz : BdP s) : cvN s = szN s := zz.2.2.2.2.2.2
abbrev Spr (s : tRow) : Prop := (∀ j, 97 ≤ j → j < 225 → 0 ≤ s j ∧ s j ≤ 1) ∧ (∀ x y d : Int, (d = 0 ∨ d = 1) → isEd s x y d = true → stB s x y d = true → 2 ≤ cI s x y → cI s x y ≠ cI s (bey0 x d) (bey1 y d))
theorem Spr.st {s : tRow} (zz : Spr s) : ∀ j, 97 ≤ j → j < 225 → 0 ≤ s j ∧ s j ≤ 1 := zz.1
theorem Spr.nx {s : tRow} (zz : Spr s) : ∀ x y d : Int, (d = 0 ∨ d = 1) → isEd s x y d = true → stB s x y d = true → 2 ≤ cI s x y → cI s x y ≠ cI s (bey0 x d) (bey1 y d) := zz.2
abbrev Pyr (s : tRow) : Prop := (0 ≤ s 2 ∧ s 2 ≤ 1) ∧ (0 ≤ s 3 ∧ s 3 ≤ 2) ∧ (∀ p w : Int, (p = 0 ∨ p = 1) → 1 ≤ w → w ≤ 6 → 0 ≤ ofS s p w ∧ ofS s p w ≤ 9) ∧ (∀ p : Int, (p = 0 ∨ p = 1) → 0 ≤ ofS s p 7 ∧ ofS s p 7 ≤ 6) ∧ (∀ p w : Int, (p = 0 ∨ p = 1) → 8 ≤ w → w ≤ 13 → 0 ≤ ofS s p w ∧ ofS s p w ≤ 127)
theorem Pyr.mv {s : tRow} (zz : Pyr s) : 0 ≤ s 2 ∧ s 2 ≤ 1 := zz.1
theorem Pyr.ps {s : tRow} (zz : Pyr s) : 0 ≤ s 3 ∧ s 3 ≤ 2 := zz.2.1
theorem Pyr.su {s : tRow} (zz : Pyr s) : ∀ p w : Int, (p = 0 ∨ p = 1) → 1 ≤ w → w ≤ 6 → 0 ≤ ofS s p w ∧ ofS s p w ≤ 9 := zz.2.2.1
theorem Pyr.nm {s : tRow} (zz : Pyr s) : ∀ p : Int, (p = 0 ∨ p = 1) → 0 ≤ ofS s p 7 ∧ ofS s p 7 ≤ 6 := zz.2.2.2.1
theorem Pyr.le {s : tRow} (zz : Pyr s) : ∀ p w : Int, (p = 0 ∨ p = 1) → 8 ≤ w → w ≤ 13 → 0 ≤ ofS s p w ∧ ofS s p w ≤ 127 := zz.2.2.2.2
abbrev Scr (s : tRow) : Prop := (0 ≤ ofS s 0 0) ∧ (0 ≤ ofS s 1 0) ∧ (ofS s 0 0 + ofS s 1 0 = ptN s)
theorem Scr.s0 {s : tRow} (zz : Scr s) : 0 ≤ ofS s 0 0 := zz.1
theorem Scr.s1 {s : tRow} (zz : Scr s) : 0 ≤ ofS s 1 0 := zz.2.1
theorem Scr.sum {s : tRow} (zz : Scr s) : ofS s 0 0 + ofS s 1 0 = ptN s := zz.2.2
abbrev Wf (s : tRow) : Prop := (BdP s) ∧ (Spr s) ∧ (Pyr s) ∧ (Scr s) ∧ (RB s)
theorem Wf.bd {s : tRow} (zz : Wf s) : BdP s := zz.1
theorem Wf.sp {s : tRow} (zz : Wf s) : Spr s := zz.2.1
theorem Wf.py {s : tRow} (zz : Wf s) : Pyr s := zz.2.2.1
theorem Wf.sc {s : tRow} (zz : Wf s) : Scr s := zz.2.2.2.1
theorem Wf.rb {s : tRow} (zz : Wf s) : RB s := zz.2.2.2.2
theorem BdP.dm {s : tRow} (h : BdP s) : Dm s := ⟨⟨by have := h.d0; omega, h.d0.2⟩, by have := h.d1; omega, h.d1.2⟩
theorem inB_7 {s : tRow} (h : Dm s) {x y : Int} (hi : inB s x y = true) : (0 ≤ x ∧ x ≤ 7) ∧ 0 ≤ y ∧ y ≤ 7 := by
  have := inB_iff.mp hi
  have d0 := h.1
  have d1 := h.2
  omega
theorem cI_cg {s s' : tRow} (h : ∀ j, 33 ≤ j → j < 97 → s' j = s j) {x y : Int} (hx : 0 ≤ x ∧ x ≤ 7) (hy : 0 ≤ y ∧ y ≤ 7) : cI s' x y = cI s x y := h _ (by omega) (by omega)
theorem inB_cg {s s' : tRow} (h0 : s' 0 = s 0) (h1 : s' 1 = s 1) {x y : Int} : inB s' x y = inB s x y := by unfold inB; rw [h0, h1]
theorem isEd_cg {s s' : tRow} (h0 : s' 0 = s 0) (h1 : s' 1 = s 1) {x y d : Int} : isEd s' x y d = isEd s x y d := by unfold isEd; rw [inB_cg h0 h1, inB_cg h0 h1, inB_cg h0 h1]
theorem cvN_cg {s s' : tRow} (d : Dm s) (h0 : s' 0 = s 0) (h1 : s' 1 = s 1) (h : ∀ j, 33 ≤ j → j < 97 → s' j = s j) : cvN s' = cvN s := by
  have d0 := d.1
  have d1 := d.2
  unfold cvN
  rw [h0, h1]
  refine sm_congr fun y hy => sm_congr fun x hx => ?_
  rw [cI_cg h (by omega) (by omega)]
theorem szN_cg {s s' : tRow} (h4 : s' 4 = s 4) (hn : s 4 ≤ 32) (h : ∀ j, 225 ≤ j → j < 417 → s' j = s j) : szN s' = szN s := by
  unfold szN
  rw [h4]
  refine sm_congr fun k hk => ?_
  rw [h (pcI k 0) (by unfold pcI; omega) (by unfold pcI; omega)]
theorem ptN_cg {s s' : tRow} (h4 : s' 4 = s 4) (hn : s 4 ≤ 32) (h : ∀ j, 225 ≤ j → j < 417 → s' j = s j) : ptN s' = ptN s := by
  unfold ptN
  rw [h4]
  exact sm_congr fun k hk => h (pcI k 5) (by unfold pcI; omega) (by unfold pcI; omega)
theorem BdP.cg {s s' : tRow} (b : BdP s) (h0 : s' 0 = s 0) (h1 : s' 1 = s 1) (h4 : s' 4 = s 4) (hc : ∀ j, 33 ≤ j → j < 97 → s' j = s j) (hp : ∀ j, 225 ≤ j → j < 417 → s' j = s j) : BdP s' := by
  have hn := b.np
  have pk : ∀ k i : Nat, (k : Int) < s 4 → i < 6 → s' (pcI k i) = s (pcI k i) := fun k i hk hi => hp _ (by unfold pcI; omega) (by unfold pcI; omega)
  refine ⟨by rw [h0]; exact b.d0, by rw [h1]; exact b.d1, by rw [h4]; exact hn, fun j j1 j2 => by rw [hc j j1 j2, h4]; exact b.ce j j1 j2, fun k hk => ?_, fun k hk j hj => ?_, ?_⟩
  · rw [h4] at hk
    unfold PcB
    rw [pk k 0 hk (by decide), pk k 1 hk (by decide), pk k 2 hk (by decide), pk k 3 hk (by decide), pk k 4 hk (by decide), pk k 5 hk (by decide), h0, h1]
    exact b.pc k hk
  · rw [h4] at hk
    rw [pk k 0 hk (by decide)] at hj
    rw [pk k 0 hk (by decide), pk k 1 hk (by decide), pk k 2 hk (by decide), pk k 3 hk (by decide)]
    obtain ⟨i1, i2⟩ := b.pd k hk j hj
    have i7 := inB_7 b.dm i1
    exact ⟨by rw [inB_cg h0 h1]; exact i1, by rw [cI_cg hc i7.1 i7.2]; exact i2⟩
  · rw [cvN_cg b.dm h0 h1 hc, szN_cg h4 hn.2 hp]
    exact b.cv
theorem edI_b {s : tRow} (d : Dm s) {x y e : Int} (hi : inB s x y = true) : 97 ≤ edI x y e ∧ edI x y e < 225 := by
  have := inB_7 d hi
  unfold edI
  split <;> omega
theorem isEd_in {s : tRow} {x y d : Int} (hd : d = 0 ∨ d = 1) (h : isEd s x y d = true) : inB s x y = true ∧ inB s (bey0 x d) (bey1 y d) = true := by
  unfold isEd at h
  rw [Bool.and_eq_true] at h
  refine ⟨h.1, ?_⟩
  unfold bey0 bey1
  rcases hd with rfl | rfl
  · simpa using h.2
  · simpa using h.2
theorem Spr.cg {s s' : tRow} (d : Dm s) (q : Spr s) (h0 : s' 0 = s 0) (h1 : s' 1 = s 1) (hc : ∀ j, 33 ≤ j → j < 225 → s' j = s j) : Spr s' := by
  refine ⟨fun j j1 j2 => by rw [hc j (by omega) j2]; exact q.st j j1 j2, fun x y e he h2 h3 h4 => ?_⟩
  rw [isEd_cg h0 h1] at h2
  have hi := isEd_in he h2
  have i7 := inB_7 d hi.1
  have i8 := inB_7 d hi.2
  have eb := edI_b d (e := e) hi.1
  unfold stB at h3
  rw [hc _ (by omega) (by omega)] at h3
  rw [cI_cg (fun j j1 j2 => hc j j1 (by omega)) i7.1 i7.2] at h4 ⊢
  rw [cI_cg (fun j j1 j2 => hc j j1 (by omega)) i8.1 i8.2]
  exact q.nx x y e he h2 (by unfold stB; exact h3) h4
theorem ofS_cg {s s' : tRow} (h : ∀ j, 5 ≤ j → j < 33 → s' j = s j) {p w : Int} (hp : p = 0 ∨ p = 1) (h0 : 0 ≤ w) (h1 : w ≤ 13) : ofS s' p w = ofS s p w := h _ (by unfold plI; omega) (by unfold plI; omega)
theorem Pyr.cg {s s' : tRow} (q : Pyr s) (h2 : s' 2 = s 2) (h3 : s' 3 = s 3) (h : ∀ j, 5 ≤ j → j < 33 → s' j = s j) : Pyr s' := by
  refine ⟨by rw [h2]; exact q.mv, by rw [h3]; exact q.ps, fun p w hp w1 w2 => ?_, fun p hp => ?_, fun p w hp w1 w2 => ?_⟩
  · rw [ofS_cg h hp (by omega) (by omega)]; exact q.su p w hp w1 w2
  · rw [ofS_cg h hp (by decide) (by decide)]; exact q.nm p hp
  · rw [ofS_cg h hp (by omega) (by omega)]; exact q.le p w hp w1 w2
theorem Scr.cg {s s' : tRow} (q : Scr s) (h4 : s' 4 = s 4) (hn : s 4 ≤ 32) (h : ∀ j, 5 ≤ j → j < 33 → s' j = s j) (hp : ∀ j, 225 ≤ j → j < 417 → s' j = s j) : Scr s' := by
  refine ⟨?_, ?_, ?_⟩
  · rw [ofS_cg h (Or.inl rfl) (by decide) (by decide)]; exact q.s0
  · rw [ofS_cg h (Or.inr rfl) (by decide) (by decide)]; exact q.s1
  · rw [ofS_cg h (Or.inl rfl) (by decide) (by decide), ofS_cg h (Or.inr rfl) (by decide) (by decide), ptN_cg h4 hn hp]; exact q.sum
/-- a pass keeps it -/
theorem Wf.kPas {s : tRow} (w : Wf s) (h : s 3 ≠ 2) : Wf (pas s) := by
  have hm := w.py.mv
  have hp := w.py.ps
  have e : ∀ j, j ≠ 2 → j ≠ 3 → pas s j = s j := fun j h2 h3 => by unfold pas; rw [fU_n h2, fU_n h3]
  have e2 : pas s 2 = 1 - s 2 := fU_s
  have e3 : pas s 3 = s 3 + 1 := by unfold pas; rw [fU_n (by decide), fU_s]
  refine ⟨w.bd.cg (e _ (by decide) (by decide)) (e _ (by decide) (by decide)) (e _ (by decide) (by decide)) (fun j j1 j2 => e j (by omega) (by omega)) (fun j j1 j2 => e j (by omega) (by omega)), w.sp.cg w.bd.dm (e _ (by decide) (by decide)) (e _ (by decide) (by decide)) (fun j j1 j2 => e j (by omega) (by omega)), ?_, w.sc.cg (e _ (by decide) (by decide)) w.bd.np.2 (fun j j1 j2 => e j (by omega) (by omega)) (fun j j1 j2 => e j (by omega) (by omega)), ?_⟩
  · have c : ∀ j, 5 ≤ j → j < 33 → pas s j = s j := fun j j1 j2 => e j (by omega) (by omega)
    refine ⟨by rw [e2]; omega, by rw [e3]; omega, fun p w' hp w1 w2 => ?_, fun p hp => ?_, fun p w' hp w1 w2 => ?_⟩
    · rw [ofS_cg c hp (by omega) (by omega)]; exact w.py.su p w' hp w1 w2
    · rw [ofS_cg c hp (by decide) (by decide)]; exact w.py.nm p hp
    · rw [ofS_cg c hp (by omega) (by omega)]; exact w.py.le p w' hp w1 w2
  · exact (w.rb.set (by omega)).set (by omega)
