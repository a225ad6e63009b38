/-! ===== the law's loop: what holds between two commands ===== -/
def LL (hA : tHS) : Nat → Prop := fun q => q < hA.2.1
def DD (m : Nat) : Nat → Prop := fun q => q < m ∨ m + 11 < q
def NN (hA : tHS) (m : Nat) : Nat → Prop := fun q => hA.2.1 ≤ q ∧ q < m
theorem WD.on {D : Nat → Prop} {h h' : tAH} {q : Nat} {l : List Int} (hh : ∀ q, D q → h' q = h q) (w : WD D h q l) : WD D h' q l := by
  obtain ⟨⟨d, b, hv, hz, vq, e1, d1, b', f, e2, e3⟩, h⟩ := w
  exact ⟨⟨d, b, hv, hz, vq, (hh _ d).trans e1, d1, b', f, (hh _ d1).trans e2, e3⟩, h⟩
theorem CWd.on {G : tG} {D : Nat → Prop} {h h' : tAH} (hh : ∀ q, D q → h' q = h q) (W : CWd G D h) : CWd G D h' := ⟨W.bar.on hh, W.below.on hh, W.block.on hh, W.corner.on hh, W.elbow.on hh, W.pass.on hh, W.place.on hh, W.player.on hh, W.right.on hh, W.rod.on hh, W.square.on hh, W.strap.on hh, W.trunk.on hh⟩
theorem CWd.wds {G : tG} {m : Nat} {D : Nat → Prop} {h : tAH} (o : Ot m D) (W : CWd G D h) : Wds G m D h := ⟨o, W.bar, W.below, W.block, W.corner, W.elbow, W.pass, W.place, W.player, W.right, W.rod, W.square, W.strap, W.trunk⟩
/-- what the start's heap holds; f: the script -/
abbrev KV (G : tG) (hA : tHS) (sa len : Nat) (f : Nat → Int32) : Prop := (CH G (LL hA) hA.1) ∧ (CWd G (LL hA) hA.1) ∧ (WD (LL hA) hA.1 (G.1 13) []) ∧ (WD (LL hA) hA.1 (G.1 19) [10]) ∧ (G.1 11 < hA.2.1 ∧ ∃ b, hA.1 (G.1 11) = some (b, 106, .inl [])) ∧ (IC G (LL hA) hA.1) ∧ (sa < hA.2.1 ∧ ∃ b, hA.1 sa = some (b, 0, .inr (len, .inl f))) ∧ (len ≤ 2147483647)
theorem KV.ch {G : tG} {hA : tHS} {sa len : Nat} {f : Nat → Int32} (zz : KV G hA sa len f) : CH G (LL hA) hA.1 := zz.1
theorem KV.cw {G : tG} {hA : tHS} {sa len : Nat} {f : Nat → Int32} (zz : KV G hA sa len f) : CWd G (LL hA) hA.1 := zz.2.1
theorem KV.w0 {G : tG} {hA : tHS} {sa len : Nat} {f : Nat → Int32} (zz : KV G hA sa len f) : WD (LL hA) hA.1 (G.1 13) [] := zz.2.2.1
theorem KV.w1 {G : tG} {hA : tHS} {sa len : Nat} {f : Nat → Int32} (zz : KV G hA sa len f) : WD (LL hA) hA.1 (G.1 19) [10] := zz.2.2.2.1
theorem KV.la {G : tG} {hA : tHS} {sa len : Nat} {f : Nat → Int32} (zz : KV G hA sa len f) : G.1 11 < hA.2.1 ∧ ∃ b, hA.1 (G.1 11) = some (b, 106, .inl []) := zz.2.2.2.2.1
theorem KV.ic {G : tG} {hA : tHS} {sa len : Nat} {f : Nat → Int32} (zz : KV G hA sa len f) : IC G (LL hA) hA.1 := zz.2.2.2.2.2.1
theorem KV.sc {G : tG} {hA : tHS} {sa len : Nat} {f : Nat → Int32} (zz : KV G hA sa len f) : sa < hA.2.1 ∧ ∃ b, hA.1 sa = some (b, 0, .inr (len, .inl f)) := zz.2.2.2.2.2.2.1
theorem KV.ln {G : tG} {hA : tHS} {sa len : Nat} {f : Nat → Int32} (zz : KV G hA sa len f) : len ≤ 2147483647 := zz.2.2.2.2.2.2.2
/-- a state between: the component's numbers are fC, aC, the model's fi, ar -/
abbrev JM (G : tG) (hA : tHS) (x m oa : Nat) (hs : tHS) (fC : Nat → Int) (aC : Nat → Nat → Int) (fi : Nat → Int) (ar : Nat → Nat → Int) : Prop := (Fi hs) ∧ (XO G (DD m) (NN hA m) hs.1 x fC aC) ∧ (hs.1 = hM m fi ar hs.1) ∧ (∀ q, q < hA.2.1 → hs.1 q = hA.1 q) ∧ (hA.2.1 ≤ m) ∧ (m + 12 ≤ hs.2.1) ∧ (m + 12 ≤ oa) ∧ (∃ f, hs.1 oa = some (true, 3, .inr (1, .inr (.inl f))))
theorem JM.fr {G : tG} {hA : tHS} {x m oa : Nat} {hs : tHS} {fC : Nat → Int} {aC : Nat → Nat → Int} {fi : Nat → Int} {ar : Nat → Nat → Int} (zz : JM G hA x m oa hs fC aC fi ar) : Fi hs := zz.1
theorem JM.xo {G : tG} {hA : tHS} {x m oa : Nat} {hs : tHS} {fC : Nat → Int} {aC : Nat → Nat → Int} {fi : Nat → Int} {ar : Nat → Nat → Int} (zz : JM G hA x m oa hs fC aC fi ar) : XO G (DD m) (NN hA m) hs.1 x fC aC := zz.2.1
theorem JM.hm {G : tG} {hA : tHS} {x m oa : Nat} {hs : tHS} {fC : Nat → Int} {aC : Nat → Nat → Int} {fi : Nat → Int} {ar : Nat → Nat → Int} (zz : JM G hA x m oa hs fC aC fi ar) : hs.1 = hM m fi ar hs.1 := zz.2.2.1
theorem JM.lo {G : tG} {hA : tHS} {x m oa : Nat} {hs : tHS} {fC : Nat → Int} {aC : Nat → Nat → Int} {fi : Nat → Int} {ar : Nat → Nat → Int} (zz : JM G hA x m oa hs fC aC fi ar) : ∀ q, q < hA.2.1 → hs.1 q = hA.1 q := zz.2.2.2.1
theorem JM.am {G : tG} {hA : tHS} {x m oa : Nat} {hs : tHS} {fC : Nat → Int} {aC : Nat → Nat → Int} {fi : Nat → Int} {ar : Nat → Nat → Int} (zz : JM G hA x m oa hs fC aC fi ar) : hA.2.1 ≤ m := zz.2.2.2.2.1
theorem JM.nm {G : tG} {hA : tHS} {x m oa : Nat} {hs : tHS} {fC : Nat → Int} {aC : Nat → Nat → Int} {fi : Nat → Int} {ar : Nat → Nat → Int} (zz : JM G hA x m oa hs fC aC fi ar) : m + 12 ≤ hs.2.1 := zz.2.2.2.2.2.1
theorem JM.oo {G : tG} {hA : tHS} {x m oa : Nat} {hs : tHS} {fC : Nat → Int} {aC : Nat → Nat → Int} {fi : Nat → Int} {ar : Nat → Nat → Int} (zz : JM G hA x m oa hs fC aC fi ar) : m + 12 ≤ oa := zz.2.2.2.2.2.2.1
theorem JM.ov {G : tG} {hA : tHS} {x m oa : Nat} {hs : tHS} {fC : Nat → Int} {aC : Nat → Nat → Int} {fi : Nat → Int} {ar : Nat → Nat → Int} (zz : JM G hA x m oa hs fC aC fi ar) : ∃ f, hs.1 oa = some (true, 3, .inr (1, .inr (.inl f))) := zz.2.2.2.2.2.2.2
def JV (G : tG) (hA : tHS) (x m oa : Nat) (hs : tHS) (fi : Nat → Int) (ar : Nat → Nat → Int) : Prop := JM G hA x m oa hs fi ar fi ar ∧ Md fi ar
section FRM
variable {G : tG} {hA hs : tHS} {sa len x m oa : Nat} {f : Nat → Int32} {fC fi : Nat → Int} {aC ar : Nat → Nat → Int}
theorem JM.ch (K : KV G hA sa len f) (J : JM G hA x m oa hs fC aC fi ar) : CH G (DD m) hs.1 := (K.ch.on fun q hq => J.lo q hq).dm fun q e hq _ => Or.inl (Nat.lt_of_lt_of_le hq J.am)
theorem JM.cw (K : KV G hA sa len f) (J : JM G hA x m oa hs fC aC fi ar) : CWd G (LL hA) hs.1 := K.cw.on fun q hq => J.lo q hq
theorem JM.w0 (K : KV G hA sa len f) (J : JM G hA x m oa hs fC aC fi ar) : WD (LL hA) hs.1 (G.1 13) [] := K.w0.on fun q hq => J.lo q hq
theorem JM.w1 (K : KV G hA sa len f) (J : JM G hA x m oa hs fC aC fi ar) : WD (LL hA) hs.1 (G.1 19) [10] := K.w1.on fun q hq => J.lo q hq
theorem JM.la (K : KV G hA sa len f) (J : JM G hA x m oa hs fC aC fi ar) : ∃ b, hs.1 (G.1 11) = some (b, 106, .inl []) := by
  obtain ⟨h, b, e⟩ := K.la
  exact ⟨b, (J.lo _ h).trans e⟩
theorem JM.wds (K : KV G hA sa len f) (J : JM G hA x m oa hs fC aC fi ar) : Wds G m (LL hA) hs.1 := (J.cw K).wds fun q hq => Or.inl (Nat.lt_of_lt_of_le hq J.am)
theorem JM.ic (K : KV G hA sa len f) (J : JM G hA x m oa hs fC aC fi ar) : IC G (DD m) hs.1 := by
  obtain ⟨d, b, kd, f, e, k, e2⟩ := K.ic.on fun q hq => J.lo q hq
  refine ⟨Or.inl (Nat.lt_of_lt_of_le d J.am), b, kd, f, e, k, fun v hv => ?_⟩
  obtain ⟨q, b', f1, f2, f3⟩ := e2 v hv
  exact ⟨q, b', f1, Or.inl (Nat.lt_of_lt_of_le f2 J.am), f3⟩
theorem JM.hDn (J : JM G hA x m oa hs fC aC fi ar) : ∀ q, hs.2.1 ≤ q → DD m q := fun q hq => Or.inr (by have := J.nm; omega)
/-- the script read -/
theorem JM.ld (K : KV G hA sa len f) (J : JM G hA x m oa hs fC aC fi ar) {p : Int} (h0 : 0 ≤ p) (h1 : p < len) : ldI hs.1 (.ref sa) (iI p) 0 0 = some (f p.toNat) := by
  obtain ⟨h, b, e⟩ := K.sc
  exact ldI_at ((J.lo _ h).trans e) (by decide) h0 h1 K.ln
theorem i32 (a : Int32) : ∃ z, InR z ∧ a = iI z := ⟨a.toInt, ⟨Int32.le_toInt a, by have := Int32.toInt_lt a; omega⟩, (Int32.ofInt_toInt a).symm⟩
theorem JM.kx (J : JM G hA x m oa hs fC aC fi ar) : t_kN hs.1 (.ref x) 0 = some x := by
  obtain ⟨sv, a, ia, ow, dq, sb, ea, hd, gs, fs, X⟩ := J.xo
  exact X.kx
theorem JM.km (J : JM G hA x m oa hs fC aC fi ar) : t_kN hs.1 (.ref m) 1 = some m := by rw [J.hm]; exact mK
theorem hM_w {m : Nat} {fi : Nat → Int} {ar : Nat → Nat → Int} {g h : tAH} (hh : ∀ q, (m ≤ q ∧ q ≤ m + 11) → h q = hM m fi ar g q) : h = hM m fi ar h := by
  funext q
  by_cases c : m ≤ q ∧ q ≤ m + 11
  · rw [hh q c]
    obtain ⟨k, rfl⟩ := Nat.le.dest c.1
    have hk : k ≤ 11 := by omega
    unfold hM
    by_cases c0 : m + k = m
    · rw [if_pos c0, if_pos c0]
    rw [if_neg c0, if_neg c0]
    by_cases c1 : m + k = m + 1
    · rw [if_pos c1, if_pos c1]
    rw [if_neg c1, if_neg c1]
    by_cases c1 : m + k = m + 2
    · rw [if_pos c1, if_pos c1]
    rw [if_neg c1, if_neg c1]
    by_cases c1 : m + k = m + 3
    · rw [if_pos c1, if_pos c1]
    rw [if_neg c1, if_neg c1]
    by_cases c1 : m + k = m + 4
    · rw [if_pos c1, if_pos c1]
    rw [if_neg c1, if_neg c1]
    by_cases c1 : m + k = m + 5
    · rw [if_pos c1, if_pos c1]
    rw [if_neg c1, if_neg c1]
    by_cases c1 : m + k = m + 6
    · rw [if_pos c1, if_pos c1]
    rw [if_neg c1, if_neg c1]
    by_cases c1 : m + k = m + 7
    · rw [if_pos c1, if_pos c1]
    rw [if_neg c1, if_neg c1]
    by_cases c1 : m + k = m + 8
    · rw [if_pos c1, if_pos c1]
    rw [if_neg c1, if_neg c1]
    by_cases c1 : m + k = m + 9
    · rw [if_pos c1, if_pos c1]
    rw [if_neg c1, if_neg c1]
    by_cases c1 : m + k = m + 10
    · rw [if_pos c1, if_pos c1]
    rw [if_neg c1, if_neg c1]
    by_cases c1 : m + k = m + 11
    · rw [if_pos c1, if_pos c1]
    exact absurd hk (by omega)
  · rw [hM_o (by omega)]
/-- what a step of the component answers, and leaves -/
def CG (G : tG) (hA : tHS) (x m : Nat) (E : Option tRS) (hs : tHS) (r : Nat ⊕ Int) (fC : Nat → Int) (aC : Nat → Nat → Int) : Prop := ∃ hs', (match r with
  | .inl κ => ∃ e, E = some (.inr e, hs') ∧ t_kind hs'.1 e = κ
  | .inr v => E = rI v hs') ∧ XO G (DD m) (NN hA m) hs'.1 x fC aC ∧ Mx (NN hA m) 31000 182000 hs hs'
theorem CM.cg {E : Option tRS} {r : Nat ⊕ Int} (h : CM G (DD m) (NN hA m) E hs x r fC aC) : CG G hA x m E hs r fC aC := by
  obtain ⟨hs', e, X, M⟩ := h
  exact ⟨hs', e, X, M.le (by decide) (by decide)⟩
theorem CQ.cg {sv a ia ow dq sb ea hd : Nat} {gs : Nat → Nat} {fs : Nat → Option Nat} {E : Option tRS} {r : Nat ⊕ Int} (X : XC G (DD m) (NN hA m) hs.1 x sv a ia ow dq sb ea hd gs fs fi ar) (hF : Fi hs) (ho : (fi 14).toNat ≤ 199) (h : CQ E hs r) : CG G hA x m E hs r fi ar := by
  obtain ⟨hs', e, M⟩ := h
  exact ⟨hs', e, (X.ex hF M ho).xo, (Ex.toN M).le (by decide) (by decide)⟩
/-- the model's cells after a step of the component -/
theorem JM.after {hs' : tHS} (J : JM G hA x m oa hs fi ar fi ar) (X : XO G (DD m) (NN hA m) hs'.1 x fC aC) (M : Mx (NN hA m) 31000 182000 hs hs') : JM G hA x m oa hs' fC aC fi ar := by
  have am := J.am
  have nm := J.nm
  have oo := J.oo
  obtain ⟨fo, eo⟩ := J.ov
  have lo : oa < hs.2.1 := J.fr.lt eo
  have keep : ∀ q, q < hs.2.1 → ¬ NN hA m q → hs'.1 q = hs.1 q := M.1
  refine ⟨M.2.2.2, X, ?_, fun q hq => ?_, am, by have := M.2.1.1; omega, oo, fo, ?_⟩
  · refine hM_w (g := hs.1) fun q hq => ?_
    rw [keep q (by omega) (fun z => by have := z.2; omega)]
    exact congrFun J.hm q
  · exact (keep q (by omega) (fun z => by have := z.1; omega)).trans (J.lo q hq)
  · exact (keep oa lo (fun z => by have := z.2; omega)).trans eo
theorem JM.at {P : tHS → Prop} (J : JM G hA x m oa hs fC aC fi ar) (h : P (hM m fi ar hs.1, hs.2)) : P hs := by
  have e : hs = (hM m fi ar hs.1, hs.2) := by
    obtain ⟨h1, h2⟩ := hs
    exact congrArg (fun t => (t, h2)) J.hm
  rw [e]
  exact h
/-- after a step of the model -/
theorem JM.done {fi' : Nat → Int} {ar' : Nat → Nat → Int} (J : JM G hA x m oa hs fC aC fi ar) (ag : AG fC aC fi' ar') (md : Md fi' ar') : JV G hA x m oa (hM m fi' ar' hs.1, hs.2) fi' ar' := by
  obtain ⟨sv, a, ia, ow, dq, sb, ea, hd, gs, fs, X⟩ := J.xo
  have am := J.am
  have nm := J.nm
  have oo := J.oo
  have c6 := md.c6
  have on : ∀ q, DD m q → hM m fi' ar' hs.1 q = hs.1 q := fun q hq => hM_o hq
  have X1 := X.on on fun q hq => Or.inl hq.2
  have k0 : aC 0 4 ≤ 32 := by rw [← ag.a0 4 (by decide)]; exact md.k0
  have k2 : ∀ k, k < (fC 6).toNat → aC 2 (417 * k + 4) ≤ 32 := fun k hk => by
    rw [← ag.h6] at hk
    rw [← ag.a2 _ (by omega)]
    exact md.k2 k hk
  have k3 : ∀ k, k < 2 → aC 5 k = 1 → aC 3 (417 * k + 4) ≤ 32 := fun k hk e => by
    rw [← ag.a5 k hk] at e
    rw [← ag.a3 _ (by omega)]
    exact md.k3 k hk e
  have X2 := X1.cg ag.h6 ag.h13 ag.h14 ag.h15 ag.h16 ag.a0 ag.a2 ag.a3 ag.a5 ag.a8 ag.a9 k0 k2 k3
  obtain ⟨fo, eo⟩ := J.ov
  refine ⟨⟨fun q hq => ?_, X2.xo, hM_w (g := hs.1) fun q _ => rfl, fun q hq => ?_, am, nm, oo, fo, (on oa (Or.inr (by omega))).trans eo⟩, md⟩
  · exact (on q (Or.inr (by have hq' : hs.2.1 ≤ q := hq; omega))).trans (J.fr q hq)
  · exact (on q (Or.inl (by omega))).trans (J.lo q hq)
end FRM
