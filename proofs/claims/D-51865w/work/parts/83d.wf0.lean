/-! ===== the setup's rows; what each statement leaves ===== -/
abbrev W0 (s : tRow) : Prop := (3 ≤ s 0 ∧ s 0 ≤ 8) ∧ (3 ≤ s 1 ∧ s 1 ≤ 8) ∧ (s 4 = 0) ∧ (∀ j, 33 ≤ j → j < 97 → 0 ≤ s j ∧ s j ≤ 1) ∧ (∀ j, 97 ≤ j → j < 225 → 0 ≤ s j ∧ s j ≤ 1) ∧ (Pyr s) ∧ (ofS s 0 0 = 0) ∧ (ofS s 1 0 = 0) ∧ (RB s)
theorem W0.d0 {s : tRow} (zz : W0 s) : 3 ≤ s 0 ∧ s 0 ≤ 8 := zz.1
theorem W0.d1 {s : tRow} (zz : W0 s) : 3 ≤ s 1 ∧ s 1 ≤ 8 := zz.2.1
theorem W0.n4 {s : tRow} (zz : W0 s) : s 4 = 0 := zz.2.2.1
theorem W0.ce {s : tRow} (zz : W0 s) : ∀ j, 33 ≤ j → j < 97 → 0 ≤ s j ∧ s j ≤ 1 := zz.2.2.2.1
theorem W0.st {s : tRow} (zz : W0 s) : ∀ j, 97 ≤ j → j < 225 → 0 ≤ s j ∧ s j ≤ 1 := zz.2.2.2.2.1
theorem W0.py {s : tRow} (zz : W0 s) : Pyr s := zz.2.2.2.2.2.1
theorem W0.a0 {s : tRow} (zz : W0 s) : ofS s 0 0 = 0 := zz.2.2.2.2.2.2.1
theorem W0.a1 {s : tRow} (zz : W0 s) : ofS s 1 0 = 0 := zz.2.2.2.2.2.2.2.1
theorem W0.rb {s : tRow} (zz : W0 s) : RB s := zz.2.2.2.2.2.2.2.2
theorem W0.dm {s : tRow} (h : W0 s) : Dm s := ⟨⟨by have := h.d0; omega, h.d0.2⟩, by have := h.d1; omega, h.d1.2⟩
theorem W0.wf {s : tRow} (h : W0 s) : Wf s := by
  have n4 := h.n4
  have dm := h.dm
  have c2 : ∀ {x y : Int}, 0 ≤ x ∧ x ≤ 7 → 0 ≤ y ∧ y ≤ 7 → cI s x y ≤ 1 := fun {x y} hx hy => (h.ce _ (by omega) (by omega)).2
  have z : ptN s = 0 := by unfold ptN; rw [n4]; rfl
  refine ⟨⟨h.d0, h.d1, by omega, fun j j1 j2 => ?_, fun k hk => by omega, fun k hk => by omega, ?_⟩, ⟨h.st, fun x y d hd h2 h3 h4 => ?_⟩, h.py, ⟨by rw [h.a0]; exact Int.le_refl 0, by rw [h.a1]; exact Int.le_refl 0, by rw [h.a0, h.a1, z]; rfl⟩, h.rb⟩
  · have := h.ce j j1 j2
    omega
  · have d0 := h.d0
    have d1 := h.d1
    unfold cvN szN
    rw [n4]
    have : ∀ n : Nat, n ≤ 8 → sm (fun y : Nat => sm (fun x : Nat => bB (decide (2 ≤ cI s x y))) (s 0).toNat) n = 0 := by
      intro n
      induction n with
      | zero => intro _; rfl
      | succ n ih =>
        intro hn
        rw [sm, ih (by omega)]
        have : ∀ k : Nat, k ≤ 8 → sm (fun x : Nat => bB (decide (2 ≤ cI s x n))) k = 0 := by
          intro k
          induction k with
          | zero => intro _; rfl
          | succ k ih2 =>
            intro hk
            rw [sm, ih2 (by omega), decide_eq_false (by have := c2 (x := k) (y := n) (by omega) (by omega); omega)]
            rfl
        rw [this _ (by omega)]
        rfl
    exact this _ (by omega)
  · have i7 := inB_7 dm (isEd_in hd h2).1
    have := c2 i7.1 i7.2
    omega
theorem W0.kBlk {s : tRow} (h : W0 s) {x y : Int} (hx : 0 ≤ x ∧ x ≤ 7) (hy : 0 ≤ y ∧ y ≤ 7) : W0 (blkP s x y) := by
  have e : ∀ j, (j < 33 ∨ 97 ≤ j) → blkP s x y j = s j := fun j hj => fU_n (by omega)
  have el : ∀ j, 5 ≤ j → j < 33 → blkP s x y j = s j := fun j j1 j2 => e j (by omega)
  refine ⟨by rw [e 0 (by decide)]; exact h.d0, by rw [e 1 (by decide)]; exact h.d1, by rw [e 4 (by decide)]; exact h.n4, fun j j1 j2 => ?_, fun j j1 j2 => by rw [e j (by omega)]; exact h.st j j1 j2, h.py.cg (e _ (by decide)) (e _ (by decide)) el, ?_, ?_, h.rb.set (by decide)⟩
  · unfold blkP fU
    split
    · decide
    · exact h.ce j j1 j2
  · rw [ofS_cg el (Or.inl rfl) (by decide) (by decide)]; exact h.a0
  · rw [ofS_cg el (Or.inr rfl) (by decide) (by decide)]; exact h.a1
theorem W0.kEdg {s : tRow} (h : W0 s) {x y d : Int} (he : 97 ≤ edI x y d ∧ edI x y d < 225) : W0 (edgP s x y d) := by
  have e : ∀ j, (j < 97 ∨ 225 ≤ j) → edgP s x y d j = s j := fun j hj => fU_n (by omega)
  have el : ∀ j, 5 ≤ j → j < 33 → edgP s x y d j = s j := fun j j1 j2 => e j (by omega)
  refine ⟨by rw [e 0 (by decide)]; exact h.d0, by rw [e 1 (by decide)]; exact h.d1, by rw [e 4 (by decide)]; exact h.n4, fun j j1 j2 => by rw [e j (by omega)]; exact h.ce j j1 j2, fun j j1 j2 => ?_, h.py.cg (e _ (by decide)) (e _ (by decide)) el, ?_, ?_, h.rb.set (by decide)⟩
  · unfold edgP fU
    split
    · decide
    · exact h.st j j1 j2
  · rw [ofS_cg el (Or.inl rfl) (by decide) (by decide)]; exact h.a0
  · rw [ofS_cg el (Or.inr rfl) (by decide) (by decide)]; exact h.a1
theorem W0.kSup {s : tRow} (h : W0 s) {k u v : Int} (hk : k = 0 ∨ k = 1) (hu : 1 ≤ u ∧ u ≤ 6) (hv : 0 ≤ v ∧ v ≤ 9) : W0 (fU s (plI k u).toNat v) := by
  have e : ∀ j, (j < 5 ∨ 33 ≤ j) → fU s (plI k u).toNat v j = s j := fun j hj => fU_n (by unfold plI; omega)
  have gl : ∀ p w : Int, (p = 0 ∨ p = 1) → 0 ≤ w → w ≤ 13 → ofS (fU s (plI k u).toNat v) p w = if p = k ∧ w = u then v else ofS s p w := fun p w hp w0 w1 => by
    unfold ofS plI fU
    by_cases c : p = k ∧ w = u
    · rw [if_pos c, if_pos (by rw [c.1, c.2])]
    · rw [if_neg c, if_neg (by omega)]
  refine ⟨by rw [e 0 (by decide)]; exact h.d0, by rw [e 1 (by decide)]; exact h.d1, by rw [e 4 (by decide)]; exact h.n4, fun j j1 j2 => by rw [e j (by omega)]; exact h.ce j j1 j2, fun j j1 j2 => by rw [e j (by omega)]; exact h.st j j1 j2, ⟨by rw [e 2 (by decide)]; exact h.py.mv, by rw [e 3 (by decide)]; exact h.py.ps, fun p w hp w1 w2 => ?_, fun p hp => ?_, fun p w hp w1 w2 => ?_⟩, ?_, ?_, h.rb.set (by omega)⟩
  · rw [gl p w hp (by omega) (by omega)]
    split
    · exact hv
    · exact h.py.su p w hp w1 w2
  · rw [gl p 7 hp (by decide) (by decide), if_neg (by omega)]; exact h.py.nm p hp
  · rw [gl p w hp (by omega) (by omega), if_neg (by omega)]; exact h.py.le p w hp w1 w2
  · rw [gl 0 0 (Or.inl rfl) (by decide) (by decide), if_neg (by omega)]; exact h.a0
  · rw [gl 1 0 (Or.inr rfl) (by decide) (by decide), if_neg (by omega)]; exact h.a1
theorem rn_all {q : Nat → Bool} {n : Nat} : ∀ {f p : Nat} {j : Nat}, p ≤ j → j < rn q n f p → q j = true := by
  intro f
  induction f with
  | zero => intro p j h1 h2; rw [rn] at h2; omega
  | succ f ih =>
    intro p j h1 h2
    rw [rn] at h2
    split at h2
    · rename_i c
      by_cases e : j = p
      · rw [e]; exact c.2
      · exact ih (by omega) h2
    · omega
theorem tk_let {inp : Nat → Int} {n p : Nat} (hk : tkK inp n p = 1) {j : Nat} (h1 : tkF inp n p ≤ j) (h2 : j < tkT inp n p) : 97 ≤ inp j ∧ inp j ≤ 122 := by
  unfold tkT at h2
  rw [if_neg (by rw [hk]; decide), if_pos hk] at h2
  exact isB_iff.mp (rn_all h1 h2)
theorem W0.kNam {s : tRow} (h : W0 s) {inp : Nat → Int} {n p : Nat} {k : Int} (hk : k = 0 ∨ k = 1) (hw : tkK inp n p = 1) (hl : tkT inp n p - tkF inp n p ≤ 6) : W0 (namP inp n s k p) := by
  generalize hL : tkT inp n p - tkF inp n p = L at hl
  have ej : ∀ j : Nat, namP inp n s k p j = if (j : Int) = plI k 7 then (L : Int) else if plI k 8 ≤ j ∧ (j : Int) < plI k 8 + (L : Int) then inp (tkF inp n p + ((j : Int) - plI k 8).toNat) else s j := fun j => by unfold namP; rw [hL]
  have e : ∀ j : Nat, (j < 5 ∨ 33 ≤ j) → namP inp n s k p j = s j := fun j hj => by
    rw [ej]
    unfold plI
    rw [if_neg (by omega), if_neg (by omega)]
  have gl : ∀ q w : Int, (q = 0 ∨ q = 1) → 0 ≤ w → w ≤ 13 → ofS (namP inp n s k p) q w = if q = k ∧ w = 7 then (L : Int) else if q = k ∧ 8 ≤ w ∧ w < 8 + (L : Int) then inp (tkF inp n p + (w - 8).toNat) else ofS s q w := fun q w hp w0 w1 => by
    unfold ofS
    rw [ej]
    unfold plI
    by_cases c : q = k ∧ w = 7
    · rw [if_pos c, if_pos (by omega)]
    · rw [if_neg c, if_neg (by omega)]
      by_cases c2 : q = k ∧ 8 ≤ w ∧ w < 8 + (L : Int)
      · rw [if_pos c2, if_pos (by omega)]
        exact congrArg (fun z => inp (tkF inp n p + z)) (by omega)
      · rw [if_neg c2, if_neg (by omega)]
  have lt : ∀ w : Int, 8 ≤ w → w < 8 + (L : Int) → 97 ≤ inp (tkF inp n p + (w - 8).toNat) ∧ inp (tkF inp n p + (w - 8).toNat) ≤ 122 := fun w w1 w2 => tk_let hw (by omega) (by omega)
  refine ⟨by rw [e 0 (by decide)]; exact h.d0, by rw [e 1 (by decide)]; exact h.d1, by rw [e 4 (by decide)]; exact h.n4, fun j j1 j2 => by rw [e j (by omega)]; exact h.ce j j1 j2, fun j j1 j2 => by rw [e j (by omega)]; exact h.st j j1 j2, ⟨by rw [e 2 (by decide)]; exact h.py.mv, by rw [e 3 (by decide)]; exact h.py.ps, fun q w hp w1 w2 => ?_, fun q hp => ?_, fun q w hp w1 w2 => ?_⟩, ?_, ?_, fun j => ?_⟩
  · rw [gl q w hp (by omega) (by omega), if_neg (by omega), if_neg (by omega)]; exact h.py.su q w hp w1 w2
  · rw [gl q 7 hp (by decide) (by decide)]
    by_cases c : q = k
    · rw [if_pos ⟨c, rfl⟩]; omega
    · rw [if_neg (fun z => c z.1), if_neg (fun z => c z.1)]; exact h.py.nm q hp
  · rw [gl q w hp (by omega) (by omega), if_neg (by omega)]
    split
    · rename_i c
      have := lt w c.2.1 c.2.2
      omega
    · exact h.py.le q w hp w1 w2
  · rw [gl 0 0 (Or.inl rfl) (by decide) (by decide), if_neg (by omega), if_neg (by omega)]; exact h.a0
  · rw [gl 1 0 (Or.inr rfl) (by decide) (by decide), if_neg (by omega), if_neg (by omega)]; exact h.a1
  · rw [ej]
    split
    · omega
    · split
      · rename_i c
        have := tk_let hw (j := tkF inp n p + ((j : Int) - plI k 8).toNat) (by omega) (by omega)
        omega
      · exact h.rb j
theorem W0.kHead {b : tRow} (z0 : ∀ j, j < 417 → b j = 0) (z : RB b) {c r : Int} (hc : 3 ≤ c ∧ c ≤ 8) (hr : 3 ≤ r ∧ r ≤ 8) : W0 (fU (fU b 0 c) 1 r) := by
  have e : ∀ j, 2 ≤ j → j < 417 → fU (fU b 0 c) 1 r j = 0 := fun j hj h4 => ((fU_n (by omega)).trans (fU_n (by omega))).trans (z0 j h4)
  have gl : ∀ p w : Int, (p = 0 ∨ p = 1) → 0 ≤ w → w ≤ 13 → ofS (fU (fU b 0 c) 1 r) p w = 0 := fun p w hp w0 w1 => e _ (by unfold plI; omega) (by unfold plI; omega)
  refine ⟨hc, hr, e 4 (by decide) (by decide), fun j j1 j2 => by rw [e j (by omega) (by omega)]; decide, fun j j1 j2 => by rw [e j (by omega) (by omega)]; decide, ⟨by rw [e 2 (by decide) (by decide)]; decide, by rw [e 3 (by decide) (by decide)]; decide, fun p w hp w1 w2 => by rw [gl p w hp (by omega) (by omega)]; decide, fun p hp => by rw [gl p 7 hp (by decide) (by decide)]; decide, fun p w hp w1 w2 => by rw [gl p w hp (by omega) (by omega)]; decide⟩, gl 0 0 (Or.inl rfl) (by decide) (by decide), gl 1 0 (Or.inr rfl) (by decide) (by decide), ?_⟩
  exact (z.set (by omega)).set (by omega)
/-! what follows from a good answer -/
section IN
variable {inp : Nat → Int} {n : Nat}
theorem nuS_inr {α : Type} {lo hi : Int} {p : Nat} {k : Int → (Int × Nat) ⊕ α} {a : α} (h : nuS inp n lo hi p k = .inr a) : hC inp n lo hi p = 0 ∧ k (tkV inp n p) = .inr a := by
  unfold nuS at h
  by_cases c : hC inp n lo hi p = 0
  · rw [if_pos c] at h; exact ⟨c, h⟩
  · rw [if_neg c] at h; cases h
theorem ckS_inr {α : Type} {b : Bool} {c : Int} {p : Nat} {k : (Int × Nat) ⊕ α} {a : α} (h : ckS inp n b c p k = .inr a) : b = false ∧ k = .inr a := by
  unfold ckS at h
  cases b with
  | true => rw [if_pos rfl] at h; cases h
  | false => exact ⟨rfl, h⟩
theorem endS_inr {s s' : tRow} {p q : Nat} (h : endS inp n s p = .inr (s', q)) : s' = s ∧ q = tkT inp n (tkT inp n p) := by
  have := (ckS_inr h).2
  injection this with this
  injection this with a b
  exact ⟨a.symm, b.symm⟩
theorem tkT_m {p : Nat} (hp : p ≤ n) : p ≤ tkT inp n p ∧ tkT inp n p ≤ n := by
  have a := tkF_b (inp := inp) hp
  have b := tkT_b (inp := inp) hp
  omega
theorem wrd_1 {p : Nat} {l : List Int} (h : wrd inp n p l = true) : tkK inp n p = 1 := by
  unfold wrd at h
  rw [Bool.and_eq_true] at h
  exact of_decide_eq_true h.1
theorem tkT_lt {p : Nat} (hp : p ≤ n) (h : tkK inp n p ≠ 0) : p < tkT inp n p := by
  have a := tkF_b (inp := inp) hp
  have b := (tkT_b (inp := inp) hp).2.2 h
  omega
theorem blockS_ok {s s' : tRow} {p q : Nat} (hp : p ≤ n) (hk : tkK inp n p ≠ 0) (w : W0 s) (h : blockS inp n s p = .inr (s', q)) : W0 s' ∧ p < q ∧ q ≤ n := by
  have d0 := w.d0
  have d1 := w.d1
  unfold blockS at h
  obtain ⟨c1, h⟩ := nuS_inr h
  obtain ⟨c2, h⟩ := nuS_inr h
  obtain ⟨-, h⟩ := ckS_inr h
  obtain ⟨rfl, rfl⟩ := endS_inr h
  have h1 := hC_ok c1
  have h2 := hC_ok c2
  have m0 := tkT_lt (inp := inp) hp hk
  have m1 := tkT_m (inp := inp) hp
  have m2 := tkT_m (inp := inp) m1.2
  have m3 := tkT_m (inp := inp) m2.2
  have m4 := tkT_m (inp := inp) m3.2
  exact ⟨w.kBlk (by omega) (by omega), by omega, by omega⟩
theorem edgeS_ok {s s' : tRow} {p q : Nat} (hp : p ≤ n) (hk : tkK inp n p ≠ 0) (w : W0 s) (h : edgeS inp n s p = .inr (s', q)) : W0 s' ∧ p < q ∧ q ≤ n := by
  unfold edgeS at h
  obtain ⟨c1, h⟩ := nuS_inr h
  obtain ⟨c2, h⟩ := nuS_inr h
  obtain ⟨g1, h⟩ := ckS_inr h
  obtain ⟨g2, h⟩ := ckS_inr h
  obtain ⟨-, h⟩ := ckS_inr h
  obtain ⟨-, h⟩ := ckS_inr h
  obtain ⟨rfl, rfl⟩ := endS_inr h
  have hd := sideS_c (inp := inp) (n := n) (p := tkT inp n (tkT inp n (tkT inp n p)))
  have g1 := of_decide_eq_false g1
  have he : isEd s (tkV inp n (tkT inp n p)) (tkV inp n (tkT inp n (tkT inp n p))) (sideS inp n (tkT inp n (tkT inp n (tkT inp n p)))) = true := by simpa using g2
  have hi := isEd_in (hd.resolve_left g1) he
  have m0 := tkT_lt (inp := inp) hp hk
  have m1 := tkT_m (inp := inp) hp
  have m2 := tkT_m (inp := inp) m1.2
  have m3 := tkT_m (inp := inp) m2.2
  have m4 := tkT_m (inp := inp) m3.2
  have m5 := tkT_m (inp := inp) m4.2
  exact ⟨w.kEdg (edI_b w.dm hi.1), by omega, by omega⟩
theorem supS_ok {k : Int} (hk : k = 0 ∨ k = 1) : ∀ {f j : Nat} {s s' : tRow} {p q : Nat}, j + f = 5 → p ≤ n → W0 s → supS inp n k f j s p = .inr (s', q) → W0 s' ∧ p ≤ q ∧ q ≤ n := by
  intro f
  induction f with
  | zero =>
    intro j s s' p q hj hp w h
    rw [supS] at h
    obtain ⟨c1, h⟩ := nuS_inr h
    obtain ⟨-, h⟩ := ckS_inr h
    injection h with h
    injection h with a b
    subst a b
    have h1 := hC_ok c1
    have m1 := tkT_m (inp := inp) hp
    have m2 := tkT_m (inp := inp) m1.2
    exact ⟨w.kSup hk (by omega) ⟨h1.2.1, h1.2.2⟩, by omega, by omega⟩
  | succ f ih =>
    intro j s s' p q hj hp w h
    rw [supS] at h
    obtain ⟨c1, h⟩ := nuS_inr h
    have h1 := hC_ok c1
    have m1 := tkT_m (inp := inp) hp
    obtain ⟨w', a, b⟩ := ih (by omega) m1.2 (w.kSup hk (by omega) ⟨h1.2.1, h1.2.2⟩) h
    exact ⟨w', by omega, b⟩
theorem playerS_ok {k : Int} (hk : k = 0 ∨ k = 1) {s s' : tRow} {p q : Nat} (hp : p ≤ n) (w : W0 s) (h : playerS inp n k s p = .inr (s', q)) : W0 s' ∧ p ≤ q ∧ q ≤ n := by
  unfold playerS at h
  obtain ⟨-, h⟩ := ckS_inr h
  obtain ⟨g, h⟩ := ckS_inr h
  obtain ⟨-, h⟩ := ckS_inr h
  rw [Bool.or_eq_false_iff] at g
  have g1 : tkK inp n (tkT inp n p) = 1 := by simpa using g.1
  have g2 := of_decide_eq_false g.2
  have m1 := tkT_m (inp := inp) hp
  have m2 := tkT_m (inp := inp) m1.2
  obtain ⟨w', a, b⟩ := supS_ok hk (by decide) m2.2 (w.kNam hk g1 (by omega)) h
  exact ⟨w', by omega, b⟩
theorem headS_ok {b : tRow} (z0 : ∀ j, j < 417 → b j = 0) (z : RB b) {s' : tRow} {q : Nat} (h : headS inp n b = .inr (s', q)) : W0 s' ∧ q ≤ n := by
  unfold headS at h
  obtain ⟨-, h⟩ := ckS_inr h
  obtain ⟨c1, h⟩ := nuS_inr h
  obtain ⟨c2, h⟩ := nuS_inr h
  obtain ⟨rfl, rfl⟩ := endS_inr h
  have h1 := hC_ok c1
  have h2 := hC_ok c2
  have m1 := tkT_m (inp := inp) (Nat.zero_le n)
  have m2 := tkT_m (inp := inp) m1.2
  have m3 := tkT_m (inp := inp) m2.2
  have m4 := tkT_m (inp := inp) m3.2
  exact ⟨W0.kHead z0 z h1.2 h2.2, m4.2⟩
theorem cmdS_ok {s s' : tRow} {p q : Nat} (hp : p ≤ n) (hk : tkK inp n p ≠ 0) (w : Wf s) (h : cmdS inp n s p = .inr (s', q)) : Wf s' ∧ p < q ∧ q ≤ n := by
  have d0 := w.bd.d0
  have d1 := w.bd.d1
  have m0 := tkT_lt (inp := inp) hp hk
  have m1 := tkT_m (inp := inp) hp
  have m2 := tkT_m (inp := inp) m1.2
  have m3 := tkT_m (inp := inp) m2.2
  have m4 := tkT_m (inp := inp) m3.2
  have m5 := tkT_m (inp := inp) m4.2
  have m6 := tkT_m (inp := inp) m5.2
  unfold cmdS at h
  split at h
  · unfold placeS at h
    obtain ⟨g1, h⟩ := ckS_inr h
    obtain ⟨c1, h⟩ := nuS_inr h
    obtain ⟨c2, h⟩ := nuS_inr h
    obtain ⟨c3, h⟩ := nuS_inr h
    obtain ⟨g2, h⟩ := ckS_inr h
    obtain ⟨rfl, rfl⟩ := endS_inr h
    have h1 := hC_ok c1
    have h2 := hC_ok c2
    have h3 := hC_ok c3
    have g1 := of_decide_eq_false g1
    have hs := shpS_c (inp := inp) (n := n) (p := tkT inp n p)
    exact ⟨w.kPlc (by omega) hs.2 h1.2.1 h1.2.2 (by omega) (by omega) (by simpa using g2), by omega, by omega⟩
  · split at h
    · unfold strapS at h
      obtain ⟨c1, h⟩ := nuS_inr h
      obtain ⟨c2, h⟩ := nuS_inr h
      obtain ⟨g1, h⟩ := ckS_inr h
      obtain ⟨g2, h⟩ := ckS_inr h
      obtain ⟨g3, h⟩ := ckS_inr h
      obtain ⟨rfl, rfl⟩ := endS_inr h
      have hd := sideS_c (inp := inp) (n := n) (p := tkT inp n (tkT inp n (tkT inp n p)))
      have g1 := of_decide_eq_false g1
      exact ⟨w.kFas (hd.resolve_left g1) (by simpa using g2) (by simpa using g3), by omega, by omega⟩
    · obtain ⟨-, h⟩ := ckS_inr h
      obtain ⟨g, h⟩ := ckS_inr h
      obtain ⟨rfl, rfl⟩ := endS_inr h
      have g : mayS s = true := by simpa using g
      refine ⟨w.kPas ?_, by omega, by omega⟩
      unfold mayS ovr at g
      rw [Bool.and_eq_true] at g
      simpa using g.1
end IN
