/-! ===== the component: what lies in the heap ===== -/
/-- nothing lies behind the heap's end -/
def Fi (hs : tHS) : Prop := ∀ q, hs.2.1 ≤ q → hs.1 q = none
/-- old cells but those of M are as they were; what is new takes at most c cells of d slots -/
def Mx (M : Nat → Prop) (c d : Nat) (hs hs' : tHS) : Prop := (∀ q, q < hs.2.1 → ¬ M q → hs'.1 q = hs.1 q) ∧ (hs.2.1 ≤ hs'.2.1 ∧ hs'.2.1 ≤ hs.2.1 + c) ∧ (hs.2.2 ≤ hs'.2.2 ∧ hs'.2.2 ≤ hs.2.2 + d) ∧ Fi hs'
def M0 : Nat → Prop := fun _ => False
abbrev Ex (c d : Nat) (hs hs' : tHS) : Prop := Mx M0 c d hs hs'
theorem Mx.refl {M : Nat → Prop} {c d : Nat} {hs : tHS} (h : Fi hs) : Mx M c d hs hs := ⟨fun _ _ _ => rfl, ⟨Nat.le_refl _, Nat.le_add_right _ _⟩, ⟨Nat.le_refl _, Nat.le_add_right _ _⟩, h⟩
theorem Mx.trans {M : Nat → Prop} {c d c' d' : Nat} {h0 h1 h2 : tHS} (a : Mx M c d h0 h1) (b : Mx M c' d' h1 h2) : Mx M (c + c') (d + d') h0 h2 := by
  obtain ⟨a1, a2, a3, a4⟩ := a
  obtain ⟨b1, b2, b3, b4⟩ := b
  exact ⟨fun q h m => (b1 q (by omega) m).trans (a1 q h m), by omega, by omega, b4⟩
theorem Mx.mono {M M' : Nat → Prop} {c d c' d' : Nat} {h0 h1 : tHS} (a : Mx M c d h0 h1) (hM : ∀ q, M q → M' q) (hc : c ≤ c') (hd : d ≤ d') : Mx M' c' d' h0 h1 :=
  ⟨fun q h m => a.1 q h fun z => m (hM q z), by have := a.2.1; omega, by have := a.2.2.1; omega, a.2.2.2⟩
theorem Mx.le {M : Nat → Prop} {c d c' d' : Nat} {h0 h1 : tHS} (a : Mx M c d h0 h1) (hc : c ≤ c') (hd : d ≤ d') : Mx M c' d' h0 h1 := a.mono (fun _ h => h) hc hd
/-- writing what is new since h0 leaves the old as it was -/
theorem Mx.fresh {M : Nat → Prop} {c d c' d' : Nat} {h0 h1 h2 : tHS} (a : Mx M c d h0 h1) (b : Mx (fun q => h0.2.1 ≤ q) c' d' h1 h2) : Mx M (c + c') (d + d') h0 h2 := by
  obtain ⟨a1, a2, a3, a4⟩ := a
  obtain ⟨b1, b2, b3, b4⟩ := b
  exact ⟨fun q h m => (b1 q (by omega) (by omega)).trans (a1 q h m), by omega, by omega, b4⟩
theorem Fi.lt {hs : tHS} {q : Nat} {e : tEnt} (h : Fi hs) (hq : hs.1 q = some e) : q < hs.2.1 := by
  rcases Nat.lt_or_ge q hs.2.1 with h1 | h1
  · exact h1
  · rw [h q h1] at hq; cases hq
/-- a cell made -/
theorem Mx.al {M : Nat → Prop} {hs : tHS} {e : tEnt} {n : Nat} (h : Fi hs) : Mx M 1 n hs (t_al hs e n) := by
  refine ⟨fun q hq _ => t_up_n (Nat.ne_of_lt hq), ⟨Nat.le_succ _, Nat.le_refl _⟩, ⟨Nat.le_add_right _ _, Nat.le_refl _⟩, fun q hq => ?_⟩
  have hq' : hs.2.1 + 1 ≤ q := hq
  exact (t_up_n (by omega)).trans (h q (by omega))
/-- a cell written -/
theorem Mx.up {M : Nat → Prop} {c d : Nat} {hs : tHS} {a : Nat} {e0 e : tEnt} (h : Fi hs) (ha : hs.1 a = some e0) (hM : M a) : Mx M c d hs (t_up hs.1 a e, hs.2) := by
  have hl := h.lt ha
  refine ⟨fun q _ m => t_up_n fun z => m (z ▸ hM), ⟨Nat.le_refl _, Nat.le_add_right _ _⟩, ⟨Nat.le_refl _, Nat.le_add_right _ _⟩, fun q hq => ?_⟩
  have hq' : hs.2.1 ≤ q := hq
  exact (t_up_n (by omega)).trans (h q hq')
/-- an entry's kind, and its length -/
def tg (e : tEnt) : Nat × Nat := match e.2.2 with
  | .inl _ => (e.2.1, 0)
  | .inr x => (e.2.1, x.1 + 1)
/-- entries of these kinds stay -/
def Kp (T : Nat × Nat → Bool) (h h' : tAH) : Prop := ∀ q e, h q = some e → T (tg e) = true → h' q = some e
theorem Kp.refl {T : Nat × Nat → Bool} {h : tAH} : Kp T h h := fun _ _ h _ => h
theorem Kp.trans {T : Nat × Nat → Bool} {h0 h1 h2 : tAH} (a : Kp T h0 h1) (b : Kp T h1 h2) : Kp T h0 h2 := fun q e h t => b q e (a q e h t) t
theorem Kp.ex {T : Nat × Nat → Bool} {c d : Nat} {hs hs' : tHS} (hf : Fi hs) (h : Ex c d hs hs') : Kp T hs.1 hs'.1 := fun q e hq _ => (h.1 q (hf.lt hq) (fun z => z)).trans hq
theorem Kp.up {T : Nat × Nat → Bool} {h : tAH} {a : Nat} {e0 e : tEnt} (ha : h a = some e0) (ht : T (tg e0) = false) : Kp T h (t_up h a e) := fun q e1 hq hT => by
  refine (t_up_n fun z => ?_).trans hq
  rw [z, ha] at hq
  cases hq
  rw [ht] at hT; cases hT
/-- what a game, its constants and its placements are made of -/
def tgG (t : Nat × Nat) : Bool := (t.2 == 0 && (t.1 == 2 || t.1 == 3 || t.1 == 4 || t.1 == 5 || t.1 == 11 || t.1 == 18)) || (t.1 == 0 && (t.2 == 65 || t.2 == 6 || t.2 == 5 || t.2 == 7 || t.2 == 9)) || (t.1 == 1 && t.2 == 129) || (t.1 == 7 && t.2 == 3) || (t.1 == 8 && t.2 == 33) || (t.1 == 4 && t.2 == 6) || (t.1 == 2 && Nat.ble t.2 7)
/-- two entries of other kinds lie apart -/
theorem ne_tg {h : tAH} {q a : Nat} {e1 e0 : tEnt} (h1 : h q = some e1) (h0 : h a = some e0) (hk : tg e1 ≠ tg e0) : q ≠ a := fun z => by
  rw [z, h0] at h1
  cases h1
  exact hk rfl
theorem up_tg {h : tAH} {q a : Nat} {e e1 e0 : tEnt} (h1 : h q = some e1) (h0 : h a = some e0) (hk : tg e1 ≠ tg e0) : t_up h a e q = some e1 := (t_up_n (ne_tg h1 h0 hk)).trans h1
/-- the shapes -/
def CH (G : tG) (D : Nat → Prop) (h : tAH) : Prop := ∀ j, j < 5 → (D (G.1 j) ∧ ∃ b, h (G.1 j) = some (b, 18, .inl [.int (iI j), .ref (G.1 (5 + j))])) ∧ D (G.1 (5 + j)) ∧ ∃ b f, h (G.1 (5 + j)) = some (b, 0, .inr (2 * shN j, .inl f)) ∧ ∀ k, k < shN j → f (2 * k) = iI (oX j k) ∧ f (2 * k + 1) = iI (oY j k)
/-- the array of all shapes -/
def SV (G : tG) (D : Nat → Prop) (h : tAH) (v : Nat) : Prop := D v ∧ ∃ b f, h v = some (b, 4, .inr (5, .inr (.inr (.inr (.inr f))))) ∧ ∀ j, j < 5 → f j = some (G.1 j)
/-- a placement -/
def PL (G : tG) (D : Nat → Prop) (h : tAH) (q : Nat) (sh r x y : Int) : Prop := D q ∧ h q = some (true, 5, .inl [.ref (G.1 sh.toNat), .int (iI r), .int (iI x), .int (iI y)])
/-- a string of Latin1 letters -/
def ST (D : Nat → Prop) (h : tAH) (q n : Nat) (f : Nat → Int) : Prop := D q ∧ ∃ b hv hz vq, h q = some (b, 11, .inl [.ref vq, .int (iI 0), .int (iI hv), .int (iI hz)]) ∧ D vq ∧ ∃ b' g, h vq = some (b', 2, .inr (n, .inl g)) ∧ ∀ j, j < n → g j = iI (f j)
def enc (v : Int) : Int := if v = 0 then -1 else if v = 1 then -2 else v - 2
/-- a player -/
def PlR (D M : Nat → Prop) (h : tAH) (b su : Nat) (s : tRow) (p : Nat) : Prop := ∃ nm f, (M b ∧ h b = some (true, 3, .inl [.ref nm, .ref su, .int (iI (ofS s p 1)), .int (iI (ofS s p 0))])) ∧ (M su ∧ h su = some (true, 0, .inr (5, .inl f)) ∧ ∀ k, k < 5 → f k = iI (ofS s p (2 + (k : Nat)))) ∧ (0 ≤ ofS s p 7 ∧ ofS s p 7 ≤ 6) ∧ ST D h nm (ofS s p 7).toNat (fun j => ofS s p (8 + (j : Nat)))
def pcI (k : Nat) (i : Nat) : Nat := 225 + k * 6 + i
/-- a piece -/
def PcR (G : tG) (D : Nat → Prop) (h : tAH) (b : Nat) (s : tRow) (k : Nat) : Prop := ∃ q, (D b ∧ h b = some (true, 4, .inl [.ref q, .int (iI (s (pcI k 4))), .int (iI (s (pcI k 5)))])) ∧ PL G D h q (s (pcI k 0)) (s (pcI k 1)) (s (pcI k 2)) (s (pcI k 3))
/-- a game at a with the row s, of np players; M: where its own cells lie, D: where all lie -/
def GR (G : tG) (D M : Nat → Prop) (h : tAH) (a : Nat) (s : tRow) (np : Nat) : Prop := ∃ (sv ca sa pa qa : Nat) (fc fs : Nat → Int32) (fp fq : Nat → Option Nat) (pl su : Nat → Nat),
  (M a ∧ h a = some (true, 2, .inl [.ref sv, .int (iI (s 0)), .int (iI (s 1)), .ref ca, .ref sa, .ref pa, .int (iI (np : Int)), .ref qa, .int (iI (s 4)), .int (iI (s 2)), .int (iI (s 3))])) ∧
  SV G D h sv ∧
  (M ca ∧ h ca = some (true, 0, .inr (64, .inl fc)) ∧ ∀ j, j < 64 → fc j = iI (enc (s (33 + j)))) ∧
  (M sa ∧ h sa = some (true, 1, .inr (128, .inl fs)) ∧ ∀ j, j < 128 → fs j = iI (bB (decide (s (97 + j) = 1)))) ∧
  (M pa ∧ h pa = some (true, 7, .inr (2, .inr (.inr (.inr (.inr fp)))))) ∧
  (∀ p, p < np → fp p = some (pl p) ∧ PlR D M h (pl p) (su p) s p) ∧ (np = 2 → pl 0 ≠ pl 1 ∧ su 0 ≠ su 1) ∧
  (M qa ∧ h qa = some (true, 8, .inr (32, .inr (.inr (.inr (.inr fq))))) ∧ ∀ k : Nat, (k : Int) < s 4 → ∃ b, fq k = some b ∧ PcR G D h b s k)
section KP
variable {G : tG} {D M D' M' : Nat → Prop} {h h' : tAH}
theorem CH.kp (hk : Kp tgG h h') (H : CH G D h) : CH G D h' := fun j hj => by
  obtain ⟨⟨d1, b1, e1⟩, d2, b2, f, e2, e3⟩ := H j hj
  refine ⟨⟨d1, b1, hk _ _ e1 rfl⟩, d2, b2, f, hk _ _ e2 ?_, e3⟩
  rcases (show j = 0 ∨ j = 1 ∨ j = 2 ∨ j = 3 ∨ j = 4 by omega) with rfl | rfl | rfl | rfl | rfl <;> rfl
theorem SV.kp {v : Nat} (hk : Kp tgG h h') (H : SV G D h v) : SV G D h' v := by
  obtain ⟨d, b, f, e, e'⟩ := H
  exact ⟨d, b, f, hk _ _ e rfl, e'⟩
theorem PL.kp {q : Nat} {sh r x y : Int} (hk : Kp tgG h h') (H : PL G D h q sh r x y) : PL G D h' q sh r x y := ⟨H.1, hk _ _ H.2 rfl⟩
theorem ST.kp {q n : Nat} {f : Nat → Int} (hk : Kp tgG h h') (hn : n ≤ 6) (H : ST D h q n f) : ST D h' q n f := by
  obtain ⟨d, b, hv, hz, vq, e1, d2, b', g, e2, e3⟩ := H
  refine ⟨d, b, hv, hz, vq, hk _ _ e1 rfl, d2, b', g, hk _ _ e2 ?_, e3⟩
  rcases (show n = 0 ∨ n = 1 ∨ n = 2 ∨ n = 3 ∨ n = 4 ∨ n = 5 ∨ n = 6 by omega) with rfl | rfl | rfl | rfl | rfl | rfl | rfl <;> rfl
theorem PlR.kp {b su p : Nat} {s : tRow} (hk : Kp tgG h h') (H : PlR D M h b su s p) : PlR D M h' b su s p := by
  obtain ⟨nm, f, ⟨m1, e1⟩, ⟨m2, e2, e3⟩, e4, e5⟩ := H
  exact ⟨nm, f, ⟨m1, hk _ _ e1 rfl⟩, ⟨m2, hk _ _ e2 rfl, e3⟩, e4, e5.kp hk (by omega)⟩
theorem PcR.kp {b k : Nat} {s : tRow} (hk : Kp tgG h h') (H : PcR G D h b s k) : PcR G D h' b s k := by
  obtain ⟨q, ⟨d, e⟩, e2⟩ := H
  exact ⟨q, ⟨d, hk _ _ e rfl⟩, e2.kp hk⟩
theorem GR.kp {a np : Nat} {s : tRow} (hk : Kp tgG h h') (H : GR G D M h a s np) : GR G D M h' a s np := by
  obtain ⟨sv, ca, sa, pa, qa, fc, fs, fp, fq, pl, su, ⟨m1, e1⟩, e2, ⟨m3, e3, e3'⟩, ⟨m4, e4, e4'⟩, ⟨m5, e5⟩, e6, e7, m8, e8, e8'⟩ := H
  refine ⟨sv, ca, sa, pa, qa, fc, fs, fp, fq, pl, su, ⟨m1, hk _ _ e1 rfl⟩, e2.kp hk, ⟨m3, hk _ _ e3 rfl, e3'⟩, ⟨m4, hk _ _ e4 rfl, e4'⟩, ⟨m5, hk _ _ e5 rfl⟩, fun p hp => ⟨(e6 p hp).1, (e6 p hp).2.kp hk⟩, e7, m8, hk _ _ e8 rfl, fun k hk' => ?_⟩
  obtain ⟨b, f1, f2⟩ := e8' k hk'
  exact ⟨b, f1, f2.kp hk⟩
/-- the places may be named by wider words -/
theorem CH.dm (hD : ∀ q e, D q → h q = some e → D' q) (H : CH G D h) : CH G D' h := fun j hj => by
  obtain ⟨⟨d1, b1, e1⟩, d2, b2, f, e2, e3⟩ := H j hj
  exact ⟨⟨hD _ _ d1 e1, b1, e1⟩, hD _ _ d2 e2, b2, f, e2, e3⟩
theorem SV.dm {v : Nat} (hD : ∀ q e, D q → h q = some e → D' q) (H : SV G D h v) : SV G D' h v := by
  obtain ⟨d, b, f, e, e'⟩ := H
  exact ⟨hD _ _ d e, b, f, e, e'⟩
theorem PL.dm {q : Nat} {sh r x y : Int} (hD : ∀ q e, D q → h q = some e → D' q) (H : PL G D h q sh r x y) : PL G D' h q sh r x y := ⟨hD _ _ H.1 H.2, H.2⟩
theorem ST.dm {q n : Nat} {f : Nat → Int} (hD : ∀ q e, D q → h q = some e → D' q) (H : ST D h q n f) : ST D' h q n f := by
  obtain ⟨d, b, hv, hz, vq, e1, d2, b', g, e2, e3⟩ := H
  exact ⟨hD _ _ d e1, b, hv, hz, vq, e1, hD _ _ d2 e2, b', g, e2, e3⟩
theorem PlR.dm {b su p : Nat} {s : tRow} (hD : ∀ q e, D q → h q = some e → D' q) (hM : ∀ q e, M q → h q = some e → M' q) (H : PlR D M h b su s p) : PlR D' M' h b su s p := by
  obtain ⟨nm, f, ⟨m1, e1⟩, ⟨m2, e2, e3⟩, e4, e5⟩ := H
  exact ⟨nm, f, ⟨hM _ _ m1 e1, e1⟩, ⟨hM _ _ m2 e2, e2, e3⟩, e4, e5.dm hD⟩
theorem PcR.dm {b k : Nat} {s : tRow} (hD : ∀ q e, D q → h q = some e → D' q) (H : PcR G D h b s k) : PcR G D' h b s k := by
  obtain ⟨q, ⟨d, e⟩, e2⟩ := H
  exact ⟨q, ⟨hD _ _ d e, e⟩, e2.dm hD⟩
theorem GR.dm {a np : Nat} {s : tRow} (hD : ∀ q e, D q → h q = some e → D' q) (hM : ∀ q e, M q → h q = some e → M' q) (H : GR G D M h a s np) : GR G D' M' h a s np := by
  obtain ⟨sv, ca, sa, pa, qa, fc, fs, fp, fq, pl, su, ⟨m1, e1⟩, e2, ⟨m3, e3, e3'⟩, ⟨m4, e4, e4'⟩, ⟨m5, e5⟩, e6, e7, m8, e8, e8'⟩ := H
  refine ⟨sv, ca, sa, pa, qa, fc, fs, fp, fq, pl, su, ⟨hM _ _ m1 e1, e1⟩, e2.dm hD, ⟨hM _ _ m3 e3, e3, e3'⟩, ⟨hM _ _ m4 e4, e4, e4'⟩, ⟨hM _ _ m5 e5, e5⟩, fun p hp => ⟨(e6 p hp).1, (e6 p hp).2.dm hD hM⟩, e7, hM _ _ m8 e8, e8, fun k hk' => ?_⟩
  obtain ⟨b, f1, f2⟩ := e8' k hk'
  exact ⟨b, f1, f2.dm hD⟩
/-- another heap that is the same where all lies -/
theorem GR.on {a np : Nat} {s : tRow} (hh : ∀ q, D q → h' q = h q) (hMD : ∀ q, M q → D q) (H : GR G D M h a s np) : GR G D M h' a s np := by
  have st : ∀ {q n : Nat} {f : Nat → Int}, ST D h q n f → ST D h' q n f := fun H => by
    obtain ⟨d, b, hv, hz, vq, e1, d2, b', g, e2, e3⟩ := H
    exact ⟨d, b, hv, hz, vq, (hh _ d).trans e1, d2, b', g, (hh _ d2).trans e2, e3⟩
  obtain ⟨sv, ca, sa, pa, qa, fc, fs, fp, fq, pl, su, ⟨m1, e1⟩, ⟨d2, b2, f2, e2, e2'⟩, ⟨m3, e3, e3'⟩, ⟨m4, e4, e4'⟩, ⟨m5, e5⟩, e6, e7, m8, e8, e8'⟩ := H
  refine ⟨sv, ca, sa, pa, qa, fc, fs, fp, fq, pl, su, ⟨m1, (hh _ (hMD _ m1)).trans e1⟩, ⟨d2, b2, f2, (hh _ d2).trans e2, e2'⟩, ⟨m3, (hh _ (hMD _ m3)).trans e3, e3'⟩, ⟨m4, (hh _ (hMD _ m4)).trans e4, e4'⟩, ⟨m5, (hh _ (hMD _ m5)).trans e5⟩, fun p hp => ⟨(e6 p hp).1, ?_⟩, e7, m8, (hh _ (hMD _ m8)).trans e8, fun k hk' => ?_⟩
  · obtain ⟨nm, f, ⟨m1, e1⟩, ⟨m2, e2, e3⟩, e4, e5⟩ := (e6 p hp).2
    exact ⟨nm, f, ⟨m1, (hh _ (hMD _ m1)).trans e1⟩, ⟨m2, (hh _ (hMD _ m2)).trans e2, e3⟩, e4, st e5⟩
  · obtain ⟨b, f1, q, ⟨d, e⟩, d3, e3⟩ := e8' k hk'
    exact ⟨b, f1, q, ⟨d, (hh _ d).trans e⟩, d3, (hh _ d3).trans e3⟩
theorem CH.on (hh : ∀ q, D q → h' q = h q) (H : CH G D h) : CH G D h' := fun j hj => by
  obtain ⟨⟨d1, b1, e1⟩, d2, b2, f, e2, e3⟩ := H j hj
  exact ⟨⟨d1, b1, (hh _ d1).trans e1⟩, d2, b2, f, (hh _ d2).trans e2, e3⟩
end KP
section GRA
variable {G : tG} {D M : Nat → Prop} {h : tAH} {a np : Nat} {s : tRow}
theorem GR.k (H : GR G D M h a s np) : t_kN h (.ref a) 2 = some a := by
  obtain ⟨sv, ca, sa, pa, qa, fc, fs, fp, fq, pl, su, ⟨m1, e1⟩, -⟩ := H
  exact kN_at e1
theorem GR.i1 (H : GR G D M h a s np) : gfI h (.ref a) 2 1 = some (iI (s 0)) := by
  obtain ⟨sv, ca, sa, pa, qa, fc, fs, fp, fq, pl, su, ⟨m1, e1⟩, -⟩ := H
  exact gfI_at e1 rfl
theorem GR.i2 (H : GR G D M h a s np) : gfI h (.ref a) 2 2 = some (iI (s 1)) := by
  obtain ⟨sv, ca, sa, pa, qa, fc, fs, fp, fq, pl, su, ⟨m1, e1⟩, -⟩ := H
  exact gfI_at e1 rfl
theorem GR.i6 (H : GR G D M h a s np) : gfI h (.ref a) 2 6 = some (iI (np : Int)) := by
  obtain ⟨sv, ca, sa, pa, qa, fc, fs, fp, fq, pl, su, ⟨m1, e1⟩, -⟩ := H
  exact gfI_at e1 rfl
theorem GR.i8 (H : GR G D M h a s np) : gfI h (.ref a) 2 8 = some (iI (s 4)) := by
  obtain ⟨sv, ca, sa, pa, qa, fc, fs, fp, fq, pl, su, ⟨m1, e1⟩, -⟩ := H
  exact gfI_at e1 rfl
theorem GR.i9 (H : GR G D M h a s np) : gfI h (.ref a) 2 9 = some (iI (s 2)) := by
  obtain ⟨sv, ca, sa, pa, qa, fc, fs, fp, fq, pl, su, ⟨m1, e1⟩, -⟩ := H
  exact gfI_at e1 rfl
theorem GR.i10 (H : GR G D M h a s np) : gfI h (.ref a) 2 10 = some (iI (s 3)) := by
  obtain ⟨sv, ca, sa, pa, qa, fc, fs, fp, fq, pl, su, ⟨m1, e1⟩, -⟩ := H
  exact gfI_at e1 rfl
theorem GR.ce (H : GR G D M h a s np) : ∃ ca fc, gfR h (.ref a) 2 3 = some (some ca) ∧ h ca = some (true, 0, .inr (64, .inl fc)) ∧ ∀ j, j < 64 → fc j = iI (enc (s (33 + j))) := by
  obtain ⟨sv, ca, sa, pa, qa, fc, fs, fp, fq, pl, su, ⟨m1, e1⟩, -, ⟨m3, e3, e3'⟩, -⟩ := H
  exact ⟨ca, fc, gfR_at e1 rfl, e3, e3'⟩
theorem GR.st (H : GR G D M h a s np) : ∃ sa fs, gfR h (.ref a) 2 4 = some (some sa) ∧ h sa = some (true, 1, .inr (128, .inl fs)) ∧ ∀ j, j < 128 → fs j = iI (bB (decide (s (97 + j) = 1))) := by
  obtain ⟨sv, ca, sa, pa, qa, fc, fs, fp, fq, pl, su, ⟨m1, e1⟩, -, -, ⟨m4, e4, e4'⟩, -⟩ := H
  exact ⟨sa, fs, gfR_at e1 rfl, e4, e4'⟩
theorem GR.sv (H : GR G D M h a s np) : ∃ sv, gfR h (.ref a) 2 0 = some (some sv) ∧ SV G D h sv := by
  obtain ⟨sv, ca, sa, pa, qa, fc, fs, fp, fq, pl, su, ⟨m1, e1⟩, e2, -⟩ := H
  exact ⟨sv, gfR_at e1 rfl, e2⟩
theorem GR.pl {p : Int} (H : GR G D M h a s np) (h0 : 0 ≤ p) (hp : p < np) (hn : np ≤ 2) : ∃ pa b su nm f, gfR h (.ref a) 2 5 = some (some pa) ∧ ldR h (.ref pa) (iI p) = some (some b) ∧ h b = some (true, 3, .inl [.ref nm, .ref su, .int (iI (ofS s p 1)), .int (iI (ofS s p 0))]) ∧ h su = some (true, 0, .inr (5, .inl f)) ∧ (∀ k : Nat, k < 5 → f k = iI (ofS s p (2 + (k : Nat)))) ∧ ST D h nm (ofS s p 7).toNat (fun j => ofS s p (8 + (j : Nat))) ∧ 0 ≤ ofS s p 7 ∧ ofS s p 7 ≤ 6 := by
  obtain ⟨sv, ca, sa, pa, qa, fc, fs, fp, fq, pl, su, ⟨m1, e1⟩, -, -, -, ⟨m5, e5⟩, e6, -⟩ := H
  obtain ⟨g1, nm, f, ⟨-, g2⟩, ⟨-, g3, g4⟩, g5, g6⟩ := e6 p.toNat (by omega)
  rw [Int.toNat_of_nonneg h0] at g2 g4 g5 g6
  exact ⟨pa, pl p.toNat, su p.toNat, nm, f, gfR_at e1 rfl, by rw [ldR_at e5 (by decide) h0 (by omega) (by decide), g1], g2, g3, g4, g6, g5⟩
theorem GR.pc {k : Int} (H : GR G D M h a s np) (h0 : 0 ≤ k) (hk : k < s 4) (h4 : s 4 ≤ 32) : ∃ qa b q, gfR h (.ref a) 2 7 = some (some qa) ∧ ldR h (.ref qa) (iI k) = some (some b) ∧ h b = some (true, 4, .inl [.ref q, .int (iI (s (pcI k.toNat 4))), .int (iI (s (pcI k.toNat 5)))]) ∧ PL G D h q (s (pcI k.toNat 0)) (s (pcI k.toNat 1)) (s (pcI k.toNat 2)) (s (pcI k.toNat 3)) := by
  obtain ⟨sv, ca, sa, pa, qa, fc, fs, fp, fq, pl, su, ⟨m1, e1⟩, -, -, -, -, -, -, m8, e8, e8'⟩ := H
  obtain ⟨b, f1, q, ⟨-, g2⟩, g3⟩ := e8' k.toNat (by omega)
  exact ⟨qa, b, q, gfR_at e1 rfl, by rw [ldR_at e8 (by decide) h0 (by omega) (by decide), f1], g2, g3⟩
theorem CH.k (H : CH G D h) {sh : Int} (h1 : 0 ≤ sh) (h2 : sh ≤ 4) : t_kN h (.ref (G.1 sh.toNat)) 18 = some (G.1 sh.toNat) := by
  obtain ⟨⟨d1, b1, e1⟩, -⟩ := H sh.toNat (by omega)
  exact kN_at e1
theorem PL.k {q : Nat} {sh r x y : Int} (H : PL G D h q sh r x y) : t_kN h (.ref q) 5 = some q := kN_at H.2
theorem PL.r0 {q : Nat} {sh r x y : Int} (H : PL G D h q sh r x y) : gfR h (.ref q) 5 0 = some (some (G.1 sh.toNat)) := gfR_at H.2 rfl
theorem PL.i1 {q : Nat} {sh r x y : Int} (H : PL G D h q sh r x y) : gfI h (.ref q) 5 1 = some (iI r) := gfI_at H.2 rfl
theorem PL.i2 {q : Nat} {sh r x y : Int} (H : PL G D h q sh r x y) : gfI h (.ref q) 5 2 = some (iI x) := gfI_at H.2 rfl
theorem PL.i3 {q : Nat} {sh r x y : Int} (H : PL G D h q sh r x y) : gfI h (.ref q) 5 3 = some (iI y) := gfI_at H.2 rfl
end GRA
/-! its queries -/
section GRQ
variable {G : tG} {D M : Nat → Prop} {hs : tHS} {a np : Nat} {s : tRow}
theorem c_indexOf {x y : Int} {v : Option Value} : t_Ev (t_pg G) t_hd Y_X3_indexOf 0 ([v, some (.int (iI x)), some (.int (iI y))], [], hs) = rI (y * 8 + x) hs := by
  rw [b_X3_indexOf_0]
  simp only [Option.bind_some, va_rf_some, va_rf_none, bI_rI, bI_rB, bV_rV, bB_0, bB_1, iI_add, iI_sub, iI_mul, iI_neg, rI_of, rV_of, Int.reduceToNat, Int.neg_neg]
theorem c_edge (H : GR G D M hs.1 a s np) {x y d : Int} : t_Ev (t_pg G) t_hd Y_X3_edge 0 ([some (.ref a), some (.int (iI x)), some (.int (iI y)), some (.int (iI d))], [], hs) = rI (d * 64 + (y * 8 + x)) hs := by
  rw [b_X3_edge_0]
  simp only [Option.bind_some, va_rf_some, va_rf_none, bI_rI, bI_rB, bV_rV, bB_0, bB_1, iI_add, iI_sub, iI_mul, iI_neg, rI_of, rV_of, Int.reduceToNat, Int.neg_neg, H.k, c_indexOf]
theorem enc_b {v : Int} (h1 : 0 ≤ v) (h2 : v ≤ 1000000) : -2 ≤ enc v ∧ enc v ≤ 1000000 := by unfold enc; split <;> (try split) <;> omega
theorem enc_e {v : Int} (h1 : 0 ≤ v) : (enc v = -1) = (v = 0) := by unfold enc; split <;> (try split) <;> simp <;> omega
theorem enc_bl {v : Int} (h1 : 0 ≤ v) : (enc v = -2) = (v = 1) := by unfold enc; split <;> (try split) <;> simp <;> omega
theorem enc_c {v : Int} (h1 : 0 ≤ v) : (enc v < 0) = (v < 2) := by unfold enc; split <;> (try split) <;> simp <;> omega
theorem c_cell (H : GR G D M hs.1 a s np) {x y : Int} (h1 : 0 ≤ x) (h2 : x ≤ 7) (h3 : 0 ≤ y) (h4 : y ≤ 7) : t_Ev (t_pg G) t_hd Y_X3_cell 0 ([some (.ref a), some (.int (iI x)), some (.int (iI y))], [], hs) = rI (enc (cI s x y)) hs := by
  obtain ⟨ca, fc, e1, e2, e3⟩ := H.ce
  rw [b_X3_cell_0]
  simp only [Option.bind_some, va_rf_some, va_rf_none, bI_rI, bI_rB, bV_rV, bB_0, bB_1, iI_add, iI_sub, iI_mul, iI_neg, rI_of, rV_of, Int.reduceToNat, Int.neg_neg, H.k, c_indexOf, e1]
  rw [ldI_at e2 (by decide) (by omega) (by omega) (by decide)]
  simp only [Option.bind_some, va_rf_some, va_rf_none, bI_rI, bI_rB, bV_rV, bB_0, bB_1, iI_add, iI_sub, iI_mul, iI_neg, rI_of, rV_of, Int.reduceToNat, Int.neg_neg]
  rw [e3 _ (by omega), show 33 + (y * 8 + x).toNat = (33 + (8 * y + x)).toNat by omega]
  rfl
theorem c_isInside (H : GR G D M hs.1 a s np) (hD : Dm s) {x y : Int} (h1 : -2147483648 ≤ x) (h2 : x ≤ 2147483647) (h3 : -2147483648 ≤ y) (h4 : y ≤ 2147483647) : t_Ev (t_pg G) t_hd Y_X3_isInside 0 ([some (.ref a), some (.int (iI x)), some (.int (iI y))], [], hs) = rB (inB s x y) hs := by
  have := hD.1
  have := hD.2
  rw [b_X3_isInside_0]
  simp (disch := omega) only [Option.bind_some, va_rf_some, va_rf_none, bI_rI, bI_rB, bV_rV, bB_0, bB_1, iI_add, iI_sub, iI_mul, iI_neg, rI_of, rV_of, Int.reduceToNat, Int.neg_neg, H.i1, H.i2, iI_lt]
  by_cases c1 : x < 0
  · rw [if_pos c1, show inB s x y = false from Bool.eq_false_iff.mpr fun z => by have := inB_iff.mp z; omega]; rfl
  rw [if_neg c1]
  by_cases c2 : x < s 0
  · rw [if_pos c2]
    by_cases c3 : y < 0
    · rw [if_pos c3, show inB s x y = false from Bool.eq_false_iff.mpr fun z => by have := inB_iff.mp z; omega]; rfl
    rw [if_neg c3]
    by_cases c4 : y < s 1
    · rw [if_pos c4, show inB s x y = true from inB_iff.mpr (by omega)]; rfl
    · rw [if_neg c4, show inB s x y = false from Bool.eq_false_iff.mpr fun z => by have := inB_iff.mp z; omega]; rfl
  · rw [if_neg c2, show inB s x y = false from Bool.eq_false_iff.mpr fun z => by have := inB_iff.mp z; omega]; rfl
theorem c_columnBeyond {v : Option Value} {x d : Int} (h1 : 0 ≤ d) (h2 : d ≤ 1) : t_Ev (t_pg G) t_hd Y_X3_columnBeyond 0 ([v, some (.int (iI x)), some (.int (iI d))], [], hs) = rI (bey0 x d) hs := by
  rw [b_X3_columnBeyond_0]
  simp (disch := omega) only [Option.bind_some, va_rf_some, va_rf_none, bI_rI, bI_rB, bV_rV, bB_0, bB_1, iI_add, iI_sub, iI_mul, iI_neg, rI_of, rV_of, Int.reduceToNat, Int.neg_neg, iI_inj]
  unfold bey0
  by_cases c : d = 0
  · rw [if_pos c, if_pos c]
  · rw [if_neg c, if_neg c]
theorem c_rowBeyond {v : Option Value} {y d : Int} (h1 : 0 ≤ d) (h2 : d ≤ 1) : t_Ev (t_pg G) t_hd Y_X3_rowBeyond 0 ([v, some (.int (iI y)), some (.int (iI d))], [], hs) = rI (bey1 y d) hs := by
  rw [b_X3_rowBeyond_0]
  simp (disch := omega) only [Option.bind_some, va_rf_some, va_rf_none, bI_rI, bI_rB, bV_rV, bB_0, bB_1, iI_add, iI_sub, iI_mul, iI_neg, rI_of, rV_of, Int.reduceToNat, Int.neg_neg, iI_inj]
  unfold bey1
  by_cases c : d = 0
  · rw [if_neg (by omega), if_pos c]
  · rw [if_pos (by omega), if_neg c]
theorem isEd_bey {x y d : Int} (h1 : 0 ≤ d) (h2 : d ≤ 1) : isEd s x y d = (inB s x y && inB s (bey0 x d) (bey1 y d)) := by
  unfold isEd bey0 bey1
  by_cases c : d = 0
  · simp only [if_pos c]
  · simp only [if_neg c]
theorem c_isEdge (H : GR G D M hs.1 a s np) (hD : Dm s) {x y d : Int} (h1 : -2147483648 ≤ x) (h2 : x ≤ 2147483647) (h3 : -2147483648 ≤ y) (h4 : y ≤ 2147483647) (h5 : 0 ≤ d) (h6 : d ≤ 1) : t_Ev (t_pg G) t_hd Y_X3_isEdge 0 ([some (.ref a), some (.int (iI x)), some (.int (iI y)), some (.int (iI d))], [], hs) = rB (isEd s x y d) hs := by
  have := hD.1
  have := hD.2
  rw [b_X3_isEdge_0, isEd_bey h5 h6]
  simp (disch := omega) only [Option.bind_some, va_rf_some, va_rf_none, bI_rI, bI_rB, bV_rV, bB_0, bB_1, iI_add, iI_sub, iI_mul, iI_neg, rI_of, rV_of, Int.reduceToNat, Int.neg_neg, H.k, c_isInside H hD, c_columnBeyond, c_rowBeyond]
  cases hi : inB s x y with
  | false => rfl
  | true =>
    have hi := inB_iff.mp hi
    have b0 : 0 ≤ bey0 x d ∧ bey0 x d ≤ 8 := by unfold bey0; split <;> omega
    have b1 : 0 ≤ bey1 y d ∧ bey1 y d ≤ 8 := by unfold bey1; split <;> omega
    simp (disch := omega) only [Option.bind_some, va_rf_some, va_rf_none, bI_rI, bI_rB, bV_rV, bB_0, bB_1, iI_add, iI_sub, iI_mul, iI_neg, rI_of, rV_of, Int.reduceToNat, Int.neg_neg, c_isInside H hD, Bool.true_and, Bool.true_eq_false, if_false]
    cases inB s (bey0 x d) (bey1 y d) with
    | false => rfl
    | true => rfl
theorem c_isStrapped (H : GR G D M hs.1 a s np) {x y d : Int} (h1 : 0 ≤ x ∧ x ≤ 7) (h2 : 0 ≤ y ∧ y ≤ 7) (h3 : 0 ≤ d) (h4 : d ≤ 1) : t_Ev (t_pg G) t_hd Y_X3_isStrapped 0 ([some (.ref a), some (.int (iI x)), some (.int (iI y)), some (.int (iI d))], [], hs) = rB (stB s x y d) hs := by
  obtain ⟨sa, fs, e1, e2, e3⟩ := H.st
  rw [b_X3_isStrapped_0]
  simp only [Option.bind_some, va_rf_some, va_rf_none, bI_rI, bI_rB, bV_rV, bB_0, bB_1, iI_add, iI_sub, iI_mul, iI_neg, rI_of, rV_of, Int.reduceToNat, Int.neg_neg, H.k, c_edge H, e1]
  rw [ldI_at e2 (by decide) (by omega) (by omega) (by decide)]
  simp only [Option.bind_some, va_rf_some, va_rf_none, bI_rI, bI_rB, bV_rV, bB_0, bB_1, iI_add, iI_sub, iI_mul, iI_neg, rI_of, rV_of, Int.reduceToNat, Int.neg_neg]
  rw [e3 _ (by omega), show 97 + (d * 64 + (y * 8 + x)).toNat = (edI x y d).toNat by unfold edI; split <;> omega, if_pos bB_ok]
  rfl
theorem c_isFinished (H : GR G D M hs.1 a s np) (hB : RB s) : t_Ev (t_pg G) t_hd Y_X3_isFinished 0 ([some (.ref a)], [], hs) = rB (ovr s) hs := by
  have := hB 3
  rw [b_X3_isFinished_0]
  simp (disch := omega) only [Option.bind_some, va_rf_some, va_rf_none, bI_rI, bI_rB, bV_rV, bB_0, bB_1, iI_add, iI_sub, iI_mul, iI_neg, rI_of, rV_of, Int.reduceToNat, Int.neg_neg, H.i10, iI_inj, rB_dec]
  (try rfl)
theorem c_emptyCellsOf (H : GR G D M hs.1 a s np) (hD : Dm s) (hB : RB s) {y : Int} (h1 : 0 ≤ y) (h2 : y ≤ 7) : t_Ev (t_pg G) t_hd Y_X3_emptyCellsOf 0 ([some (.ref a), some (.int (iI y)), none, none], [], hs) = rI (emi s y) hs := by
  rw [b_X3_emptyCellsOf_0]
  have hd := hD.1
  have hn := tn_of hd.1
  refine Eq.trans (lp_up (N := (s 0).toNat) (F := fun k => t_Ev (t_pg G) t_hd Y_X3_emptyCellsOf 4 ([some (.ref a), some (.int (iI y)), some (.int (iI (sm (fun x => bB (decide (cI s x y = 0))) k))), some (.int (iI (k : Int)))], [], hs)) (fun k hk => ?_)) ?_
  · have hk' : (k : Int) < s 0 := by omega
    have hc := hB.c k y
    have hb := enc_b hc.1 hc.2
    try dsimp only
    rw [b_X3_emptyCellsOf_4]
    simp (disch := omega) only [Option.bind_some, va_rf_some, va_rf_none, bI_rI, bI_rB, bV_rV, bB_0, bB_1, iI_add, iI_sub, iI_mul, iI_neg, rI_of, rV_of, Int.reduceToNat, Int.neg_neg, iI_lt, iI_le, iI_inj, Int.toNat_natCast, Int.lt_irrefl, if_true, if_false, reduceIte, H.k, H.i1, hk', c_cell H, sm, enc_e]
    by_cases c : cI s k y = 0
    · rw [if_pos c, decide_eq_true c]; rfl
    · rw [if_neg c, decide_eq_false c, bB_f]; rfl
  · try dsimp only
    rw [b_X3_emptyCellsOf_4]
    simp (disch := omega) only [Option.bind_some, va_rf_some, va_rf_none, bI_rI, bI_rB, bV_rV, bB_0, bB_1, iI_add, iI_sub, iI_mul, iI_neg, rI_of, rV_of, Int.reduceToNat, Int.neg_neg, iI_lt, iI_le, iI_inj, Int.toNat_natCast, Int.lt_irrefl, if_true, if_false, reduceIte, H.k, H.i1, hn]
    (try rfl)
theorem c_ordinal (C : CH G D hs.1) {sh : Int} (h1 : 0 ≤ sh) (h2 : sh ≤ 4) : t_Ev (t_pg G) t_hd Y_J0_ordinal 0 ([some (.ref (G.1 sh.toNat))], [], hs) = rI sh hs := by
  obtain ⟨⟨d1, b1, e1⟩, -⟩ := C sh.toNat (by omega)
  rw [b_J0_ordinal_0, gfI_at e1 rfl]
  simp only [Option.bind_some, va_rf_some, va_rf_none, bI_rI, bI_rB, bV_rV, bB_0, bB_1, iI_add, iI_sub, iI_mul, iI_neg, rI_of, rV_of, Int.reduceToNat, Int.neg_neg, Int.toNat_of_nonneg h1]
theorem c_hasPiece (H : GR G D M hs.1 a s np) (C : CH G D hs.1) (hB : RB s) {p sh : Int} (h1 : 0 ≤ sh) (h2 : sh ≤ 4) (h3 : 0 ≤ p) (h4 : p < np) (h5 : np ≤ 2) : t_Ev (t_pg G) t_hd Y_X3_hasPiece 0 ([some (.ref a), some (.int (iI p)), some (.ref (G.1 sh.toNat))], [], hs) = rB (decide (0 < ofS s p (2 + sh))) hs := by
  obtain ⟨pa, b, su, nm, f, e1, e2, e3, e4, e5, -⟩ := H.pl h3 h4 h5
  have ho : 0 ≤ ofS s p (2 + sh) ∧ ofS s p (2 + sh) ≤ 1000000 := hB _
  rw [b_X3_hasPiece_0]
  simp only [Option.bind_some, va_rf_some, va_rf_none, bI_rI, bI_rB, bV_rV, bB_0, bB_1, iI_add, iI_sub, iI_mul, iI_neg, rI_of, rV_of, Int.reduceToNat, Int.neg_neg, e1, e2, gfR_at (k := 1) (q := su) e3 rfl, C.k h1 h2, c_ordinal C h1 h2]
  rw [ldI_at e4 (by decide) h1 (by omega) (by decide)]
  simp only [Option.bind_some, va_rf_some, va_rf_none, bI_rI, bI_rB, bV_rV, bB_0, bB_1, iI_add, iI_sub, iI_mul, iI_neg, rI_of, rV_of, Int.reduceToNat, Int.neg_neg]
  rw [e5 _ (by omega), Int.toNat_of_nonneg h1]
  simp (disch := omega) only [iI_lt, rB_dec]
/-! placements -/
theorem c_cells (C : CH G D hs.1) {sh : Int} (h1 : 0 ≤ sh) (h2 : sh ≤ 4) : t_Ev (t_pg G) t_hd Y_X2_cells 0 ([some (.ref (G.1 sh.toNat))], [], hs) = rI (shN sh) hs := by
  obtain ⟨⟨d1, b1, e1⟩, d2, b2, f, e2, e3⟩ := C sh.toNat (by omega)
  rw [b_X2_cells_0, gfR_at e1 rfl]
  simp only [Option.bind_some, va_rf_some, va_rf_none, bI_rI, bI_rB, bV_rV, bB_0, bB_1, iI_add, iI_sub, iI_mul, iI_neg, rI_of, rV_of, Int.reduceToNat, Int.neg_neg, aLen_at e2]
  rcases rcs5 h1 h2 with rfl | rfl | rfl | rfl | rfl <;> rfl
theorem c_columnOffset (C : CH G D hs.1) {sh k r : Int} {v v' : Option Value} (h1 : 0 ≤ sh) (h2 : sh ≤ 4) (h3 : 0 ≤ k) (h4 : k < shN sh) (h5 : 0 ≤ r) (h6 : r ≤ 3) : t_Ev (t_pg G) t_hd Y_X2_columnOffset 0 ([some (.ref (G.1 sh.toNat)), some (.int (iI k)), some (.int (iI r)), v, v'], [], hs) = rI (rqX r (oX sh k) (oY sh k)) hs := by
  obtain ⟨⟨d1, b1, e1⟩, d2, b2, f, e2, e3⟩ := C sh.toNat (by omega)
  rw [Int.toNat_of_nonneg h1] at e2 e3
  have hk := e3 k.toNat (by omega)
  rw [Int.toNat_of_nonneg h3] at hk
  have hN := (shN_b (sh := sh)).2
  rw [b_X2_columnOffset_0, gfR_at e1 rfl]
  simp only [Option.bind_some, va_rf_some, va_rf_none, bI_rI, bI_rB, bV_rV, bB_0, bB_1, iI_add, iI_sub, iI_mul, iI_neg, rI_of, rV_of, Int.reduceToNat, Int.neg_neg]
  rw [ldI_at e2 (by decide) (by omega) (by omega) (by omega)]
  simp only [Option.bind_some, va_rf_some, va_rf_none, bI_rI, bI_rB, bV_rV, bB_0, bB_1, iI_add, iI_sub, iI_mul, iI_neg, rI_of, rV_of, Int.reduceToNat, Int.neg_neg]
  rw [ldI_at e2 (by decide) (by omega) (by omega) (by omega), show (2 * k).toNat = 2 * k.toNat by omega, show (2 * k + 1).toNat = 2 * k.toNat + 1 by omega, hk.1, hk.2]
  unfold rqX
  rcases rcs4 h5 h6 with rfl | rfl | rfl | rfl
  · rfl
  · simp only [Option.bind_some, va_rf_some, va_rf_none, bI_rI, bI_rB, bV_rV, bB_0, bB_1, iI_add, iI_sub, iI_mul, iI_neg, rI_of, rV_of, Int.reduceToNat, Int.neg_neg]; rfl
  · simp only [Option.bind_some, va_rf_some, va_rf_none, bI_rI, bI_rB, bV_rV, bB_0, bB_1, iI_add, iI_sub, iI_mul, iI_neg, rI_of, rV_of, Int.reduceToNat, Int.neg_neg]; rfl
  · rfl
theorem c_rowOffset (C : CH G D hs.1) {sh k r : Int} (h1 : 0 ≤ sh) (h2 : sh ≤ 4) (h3 : 0 ≤ k) (h4 : k < shN sh) (h5 : 0 ≤ r) (h6 : r ≤ 3) : t_Ev (t_pg G) t_hd Y_X2_rowOffset 0 ([some (.ref (G.1 sh.toNat)), some (.int (iI k)), some (.int (iI r))], [], hs) = rI (rqY r (oX sh k) (oY sh k)) hs := by
  rw [b_X2_rowOffset_0, C.k h1 h2]
  rcases rcs4 h5 h6 with rfl | rfl | rfl | rfl
  · simp only [show ((iI 0 + iI 4) - iI 1) - ((iI 0 + iI 4) - iI 1) / iI 4 * iI 4 = iI 3 by decide, Option.bind_some]
    rw [c_columnOffset C h1 h2 h3 h4 (by decide) (by decide)]
    rfl
  · simp only [show ((iI 1 + iI 4) - iI 1) - ((iI 1 + iI 4) - iI 1) / iI 4 * iI 4 = iI 0 by decide, Option.bind_some]
    rw [c_columnOffset C h1 h2 h3 h4 (by decide) (by decide)]
    rfl
  · simp only [show ((iI 2 + iI 4) - iI 1) - ((iI 2 + iI 4) - iI 1) / iI 4 * iI 4 = iI 1 by decide, Option.bind_some]
    rw [c_columnOffset C h1 h2 h3 h4 (by decide) (by decide)]
    rfl
  · simp only [show ((iI 3 + iI 4) - iI 1) - ((iI 3 + iI 4) - iI 1) / iI 4 * iI 4 = iI 2 by decide, Option.bind_some]
    rw [c_columnOffset C h1 h2 h3 h4 (by decide) (by decide)]
    rfl
theorem c_columnOf (C : CH G D hs.1) {q : Nat} {sh r x y k : Int} (P : PL G D hs.1 q sh r x y) (h1 : 0 ≤ sh) (h2 : sh ≤ 4) (h3 : 0 ≤ k) (h4 : k < shN sh) (h5 : 0 ≤ r) (h6 : r ≤ 3) : t_Ev (t_pg G) t_hd Y_X8_columnOf 0 ([some (.ref q), some (.int (iI k))], [], hs) = rI (cX sh r x k.toNat) hs := by
  rw [b_X8_columnOf_0]
  simp only [Option.bind_some, va_rf_some, va_rf_none, bI_rI, bI_rB, bV_rV, bB_0, bB_1, iI_add, iI_sub, iI_mul, iI_neg, rI_of, rV_of, Int.reduceToNat, Int.neg_neg, P.i2, P.r0, P.i1, C.k h1 h2]
  rw [c_columnOffset C h1 h2 h3 h4 h5 h6]
  simp only [Option.bind_some, va_rf_some, va_rf_none, bI_rI, bI_rB, bV_rV, bB_0, bB_1, iI_add, iI_sub, iI_mul, iI_neg, rI_of, rV_of, Int.reduceToNat, Int.neg_neg]
  unfold cX
  rw [Int.toNat_of_nonneg h3]
theorem c_rowOf (C : CH G D hs.1) {q : Nat} {sh r x y k : Int} (P : PL G D hs.1 q sh r x y) (h1 : 0 ≤ sh) (h2 : sh ≤ 4) (h3 : 0 ≤ k) (h4 : k < shN sh) (h5 : 0 ≤ r) (h6 : r ≤ 3) : t_Ev (t_pg G) t_hd Y_X8_rowOf 0 ([some (.ref q), some (.int (iI k))], [], hs) = rI (cY sh r y k.toNat) hs := by
  rw [b_X8_rowOf_0]
  simp only [Option.bind_some, va_rf_some, va_rf_none, bI_rI, bI_rB, bV_rV, bB_0, bB_1, iI_add, iI_sub, iI_mul, iI_neg, rI_of, rV_of, Int.reduceToNat, Int.neg_neg, P.i3, P.r0, P.i1, C.k h1 h2]
  rw [c_rowOffset C h1 h2 h3 h4 h5 h6]
  simp only [Option.bind_some, va_rf_some, va_rf_none, bI_rI, bI_rB, bV_rV, bB_0, bB_1, iI_add, iI_sub, iI_mul, iI_neg, rI_of, rV_of, Int.reduceToNat, Int.neg_neg]
  unfold cY
  rw [Int.toNat_of_nonneg h3]
end GRQ
