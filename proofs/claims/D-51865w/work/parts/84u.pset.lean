/-! ===== the component's parser: the setup ===== -/
section SU
variable {G : tG} {D D' M : Nat → Prop} {u xa ia a n : Nat} {inp : Nat → Int}
/-- a part of the setup read since hs0: an error, or on to N -/
def StO (G : tG) (D M : Nat → Prop) (hs0 : tHS) (u xa ia a : Nat) (inp : Nat → Int) (n np : Nat) (r : PR) (E : Option tRS) (N : tHS → Option tRS) (hs' : tHS) : Prop := match r with
  | .inl e => PErr e.1 e.2 hs0.2.1 E hs' ∧ Mx (MU u M) (25 * n + 20) (150 * n + 350) hs0 hs'
  | .inr q => if tkK inp n q.2 = 4 then PErr 1 (tkF inp n q.2) hs0.2.1 E hs' ∧ Mx (MU u M) (25 * n + 20) (150 * n + 350) hs0 hs' else E = N hs' ∧ PGa G D M hs' u xa ia a inp n q.2 q.1 np ∧ TKc hs'.1 u xa (.ref a) inp n q.2 hs0.2.1 ∧ Mx (MU u M) (25 * tkT inp n q.2 + 10) (150 * tkT inp n q.2 + 300) hs0 hs'
theorem c_blocks {hs0 : tHS} {v1 v2 : Option Value} (hD' : ∀ q, D' q → ¬ MU u M q) : ∀ (f : Nat) {hs : tHS} {s : tRow} {p : Nat}, n + 1 ≤ p + f → PGa G D M hs u xa ia a inp n p s 0 → TKc hs.1 u xa (.ref a) inp n p hs0.2.1 → tkK inp n p ≠ 4 → W0 s → CWd G D' hs.1 → Mx (MU u M) (25 * tkT inp n p + 10) (150 * tkT inp n p + 300) hs0 hs → ∃ hs', StO G D M hs0 u xa ia a inp n 0 (blocksS inp n f s p) (t_Ev (t_pg G) t_hd Y_X6_parseSetup 48 ([some (.ref u), v1, v2], [], hs)) (fun h => t_Ev (t_pg G) t_hd Y_X6_parseSetup 64 ([some (.ref u), v1, v2], [], h)) hs' := by
  intro f
  induction f with
  | zero =>
    intro hs s p hf k
    have := k.hp
    omega
  | succ f ih =>
    intro hs s p hf k tk h4 w W m0
    obtain ⟨kd, va, wd, e⟩ := k.u
    have t0 := tkT_m (inp := inp) k.hp
    have z0 := m0.2.1.1
    rw [b_X6_parseSetup_48, kN_at e, Option.bind_some, c_isWord tk k.h6 k.hp W.block (by decide), bI_rB]
    simp only [bB_0]
    rw [blocksS]
    cases cw : wrd inp n p wBlock with
    | false =>
      rw [if_pos rfl, if_neg (by decide)]
      refine ⟨hs, ?_⟩
      unfold StO
      try dsimp only
      rw [if_neg h4]
      exact ⟨rfl, k, tk, m0⟩
    | true =>
      have hk0 : tkK inp n p ≠ 0 := by rw [wrd_1 cw]; decide
      rw [if_pos rfl, if_neg (by decide), kN_at e, Option.bind_some]
      obtain ⟨h2, o⟩ := c_parseBlock k (by decide) w.dm w.rb
      have ok := @blockS_ok inp n s
      cases hr : blockS inp n s p with
      | inl er =>
        rw [hr] at o
        exact ⟨h2, (o.1.le z0).bV, (m0.trans o.2).le (by omega) (by omega)⟩
      | inr a2 =>
        obtain ⟨s', q⟩ := a2
        obtain ⟨w', pq, qn⟩ := ok k.hp hk0 w hr
        rw [hr] at o
        unfold Out at o
        dsimp only at o ⊢
        by_cases c4 : tkK inp n q = 4
        · rw [if_pos c4] at o
          obtain ⟨f', hf'⟩ : ∃ f', f = f' + 1 := ⟨f - 1, by omega⟩
          refine ⟨h2, ?_⟩
          rw [hf', blocksS, wrd_k (by omega), if_neg (by decide)]
          unfold StO
          try dsimp only
          rw [if_pos c4]
          exact ⟨(o.1.le z0).bV, (m0.trans o.2).le (by omega) (by omega)⟩
        · rw [if_neg c4] at o
          obtain ⟨oe, ok2, otk, ot, om⟩ := o
          rw [oe, bV_rV]
          exact ih (by omega) ok2 (otk.z z0) c4 w' (W.mm k.fi om hD') ((m0.trans om).le (by omega) (by omega))
theorem c_edges {hs0 : tHS} {v1 v2 : Option Value} (hD' : ∀ q, D' q → ¬ MU u M q) : ∀ (f : Nat) {hs : tHS} {s : tRow} {p : Nat}, n + 1 ≤ p + f → PGa G D M hs u xa ia a inp n p s 0 → TKc hs.1 u xa (.ref a) inp n p hs0.2.1 → tkK inp n p ≠ 4 → W0 s → CWd G D' hs.1 → Mx (MU u M) (25 * tkT inp n p + 10) (150 * tkT inp n p + 300) hs0 hs → ∃ hs', StO G D M hs0 u xa ia a inp n 0 (edgesS inp n f s p) (t_Ev (t_pg G) t_hd Y_X6_parseSetup 64 ([some (.ref u), v1, v2], [], hs)) (fun h => t_Ev (t_pg G) t_hd Y_X6_parseSetup 82 ([some (.ref u), v1, some (.int (iI 0))], [], h)) hs' := by
  intro f
  induction f with
  | zero =>
    intro hs s p hf k
    have := k.hp
    omega
  | succ f ih =>
    intro hs s p hf k tk h4 w W m0
    obtain ⟨kd, va, wd, e⟩ := k.u
    have t0 := tkT_m (inp := inp) k.hp
    have z0 := m0.2.1.1
    rw [b_X6_parseSetup_64, kN_at e, Option.bind_some, c_isWord tk k.h6 k.hp W.strap (by decide), bI_rB]
    simp only [bB_0]
    rw [edgesS]
    cases cw : wrd inp n p wStrap with
    | false =>
      rw [if_pos rfl, if_neg (by decide)]
      refine ⟨hs, ?_⟩
      unfold StO
      try dsimp only
      rw [if_neg h4]
      exact ⟨rfl, k, tk, m0⟩
    | true =>
      have hk0 : tkK inp n p ≠ 0 := by rw [wrd_1 cw]; decide
      rw [if_pos rfl, if_neg (by decide), kN_at e, Option.bind_some]
      obtain ⟨h2, o⟩ := c_parseStrap k (by decide) w.dm w.rb W.right W.below
      have ok := @edgeS_ok inp n s
      cases hr : edgeS inp n s p with
      | inl er =>
        rw [hr] at o
        exact ⟨h2, (o.1.le z0).bV, (m0.trans o.2).le (by omega) (by omega)⟩
      | inr a2 =>
        obtain ⟨s', q⟩ := a2
        obtain ⟨w', pq, qn⟩ := ok k.hp hk0 w hr
        rw [hr] at o
        unfold Out at o
        dsimp only at o ⊢
        by_cases c4 : tkK inp n q = 4
        · rw [if_pos c4] at o
          obtain ⟨f', hf'⟩ : ∃ f', f = f' + 1 := ⟨f - 1, by omega⟩
          refine ⟨h2, ?_⟩
          rw [hf', edgesS, wrd_k (by omega), if_neg (by decide)]
          unfold StO
          try dsimp only
          rw [if_pos c4]
          exact ⟨(o.1.le z0).bV, (m0.trans o.2).le (by omega) (by omega)⟩
        · rw [if_neg c4] at o
          obtain ⟨oe, ok2, otk, ot, om⟩ := o
          rw [oe, bV_rV]
          exact ih (by omega) ok2 (otk.z z0) c4 w' (W.mm k.fi om hD') ((m0.trans om).le (by omega) (by omega))
/-- one player -/
theorem c_player1 {hs0 hs : tHS} {v1 : Option Value} {s : tRow} {p np : Nat} (hnp : np ≤ 1) (k : PGa G D M hs u xa ia a inp n p s np) (tk : TKc hs.1 u xa (.ref a) inp n p hs0.2.1) (w : W0 s) (W : CWd G D' hs.1) (m0 : Mx (MU u M) (25 * tkT inp n p + 10) (150 * tkT inp n p + 300) hs0 hs) : ∃ hs', StO G D M hs0 u xa ia a inp n (np + 1) (playerS inp n (np : Int) s p) (t_Ev (t_pg G) t_hd Y_X6_parseSetup 82 ([some (.ref u), v1, some (.int (iI (np : Int)))], [], hs)) (fun h => t_Ev (t_pg G) t_hd Y_X6_parseSetup 82 ([some (.ref u), v1, some (.int (iI ((np : Int) + 1)))], [], h)) hs' := by
  obtain ⟨kd, va, wd, e⟩ := k.u
  have t0 := tkT_m (inp := inp) k.hp
  have z0 := m0.2.1.1
  rw [b_X6_parseSetup_82, kN_at e, Option.bind_some]
  simp (disch := omega) only [iI_lt]
  rw [if_pos (by omega)]
  obtain ⟨h2, o⟩ := c_parsePlayer k tk hnp w W.player
  refine ⟨h2, ?_⟩
  cases hr : playerS inp n (np : Int) s p with
  | inl er =>
    rw [hr] at o
    exact ⟨(o.1.le z0).bV, (m0.trans o.2).le (by omega) (by omega)⟩
  | inr a2 =>
    obtain ⟨s', q⟩ := a2
    rw [hr] at o
    unfold Out at o
    unfold StO
    dsimp only at o ⊢
    by_cases c4 : tkK inp n q = 4
    · rw [if_pos c4] at o ⊢
      exact ⟨(o.1.le z0).bV, (m0.trans o.2).le (by omega) (by omega)⟩
    · rw [if_neg c4] at o ⊢
      obtain ⟨oe, ok2, otk, ot, om⟩ := o
      exact ⟨by rw [oe, bV_rV, show iI (np : Int) + iI 1 = iI ((np : Int) + 1) from iI_add _ _], ok2, otk.z z0, (m0.trans om).le (by omega) (by omega)⟩
end SU
