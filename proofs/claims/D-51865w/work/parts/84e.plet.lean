/-! ===== the component's parser: words ===== -/
theorem chr16 {v : Int} (h0 : 0 ≤ v) (h1 : v ≤ 127) : ((iI v).toUInt32 % 65536).toInt32 = iI v := by
  have : ∀ k : Nat, k < 128 → ((iI (k : Int)).toUInt32 % 65536).toInt32 = iI (k : Int) := by decide +kernel
  have := this v.toNat (by omega)
  rw [Int.toNat_of_nonneg h0] at this
  exact this
theorem FW.up {h : tAH} {q n b u : Nat} {f : Nat → Int} {e : tEnt} (w : FW h q n b f) (hu : u < b) : FW (t_up h u e) q n b f := by
  obtain ⟨vq, g, e1, ⟨b1, b2⟩, e2, e3⟩ := w
  exact ⟨vq, g, (t_up_n (by omega)).trans e1, ⟨b1, b2⟩, (t_up_n (by omega)).trans e2, e3⟩
theorem FW.le {h : tAH} {q n b b' : Nat} {f : Nat → Int} (w : FW h q n b f) (hb : b' ≤ b) : FW h q n b' f := by
  obtain ⟨vq, g, e1, ⟨b1, b2⟩, e2, e3⟩ := w
  exact ⟨vq, g, e1, ⟨by omega, by omega⟩, e2, e3⟩
/-- old cells but u unchanged -/
theorem Mx.old {u c d : Nat} {h0 h1 : tHS} (a : Mx (fun q => q = u ∨ h0.2.1 ≤ q) c d h0 h1) : Mx (fun q => q = u) c d h0 h1 := ⟨fun q hq hn => a.1 q hq (fun z => by rcases z with z | z; exact hn z; omega), a.2⟩
section LTT
variable {G : tG} {hs : tHS} {u xa ia n : Nat} {inp : Nat → Int} {tv : Value} {st kd va : Int} {w : Nat}
theorem c_letters {p : Nat} (hF : Fi hs) (hI : IB inp) (hn : n ≤ 600) (hp : p ≤ n) (hu : hs.1 u = some (pcl tv p st kd va w xa)) (c : CI hs.1 xa ia inp n) : ∃ hs' w', t_Ev (t_pg G) t_hd Y_X6_readLetters 0 ([some (.ref u), none], [], hs) = rV hs' ∧ Mx (fun q => q = u) (4 + (rn (isLt inp) n (n - p) p - p)) (56 + 5 * (rn (isLt inp) n (n - p) p - p)) hs hs' ∧ hs'.1 u = some (pcl tv (rn (isLt inp) n (n - p) p) st kd va w' xa) ∧ FW hs'.1 w' (rn (isLt inp) n (n - p) p - p) hs.2.1 (fun j => inp (p + j)) := by
  obtain ⟨b0, hb0⟩ : ∃ b0, b0 = hs.2.1 := ⟨_, rfl⟩
  have ul := hF.lt hu
  have xl : xa < hs.2.1 := by obtain ⟨⟨bx, fl, e1, -⟩, -⟩ := c; exact hF.lt e1
  have il : ia < hs.2.1 := by obtain ⟨-, bi, q, e4, -⟩ := c; exact hF.lt e4
  have ne := c.ne hu (by decide)
  obtain ⟨h1, e1, B1, x1⟩ := c_sbNew (G := G) hF (fun j => inp (p + j))
  have lo : ∀ (d k : Nat) (hk : tHS) (v S : Nat), n - (p + k) = d → p + k ≤ n → Mx (fun q => q = u ∨ hs.2.1 ≤ q) (2 + k) (20 + 2 * S) hs hk → hk.1 u = some (pcl tv ((p + k : Nat) : Int) st kd va w xa) → SB hk.1 hs.2.1 v S k (fun j => inp (p + j)) → hs.2.1 ≤ v →
      ∃ hs' w', t_Ev (t_pg G) t_hd Y_X6_readLetters 8 ([some (.ref u), some (.ref hs.2.1)], [], hk) = rV hs' ∧ Mx (fun q => q = u ∨ hs.2.1 ≤ q) (4 + (rn (isLt inp) n (n - (p + k)) (p + k) - p)) (56 + 5 * (rn (isLt inp) n (n - (p + k)) (p + k) - p)) hs hs' ∧ hs'.1 u = some (pcl tv (rn (isLt inp) n (n - (p + k)) (p + k)) st kd va w' xa) ∧ FW hs'.1 w' (rn (isLt inp) n (n - (p + k)) (p + k) - p) hs.2.1 (fun j => inp (p + j)) := by
    intro d
    induction d with
    | zero =>
      intro k hk v S hd hp' m hu' B hv
      have ck : CI hk.1 xa ia inp n := c.cg (m.1 xa xl (fun z => by rcases z with z | z; exact ne.1 z; omega)) (m.1 ia il (fun z => by rcases z with z | z; exact ne.2 z; omega))
      obtain ⟨h2, e2, F2, x2⟩ := c_sbStr (G := G) m.2.2.2 B (by omega)
      have kb := m.2.1.1
      have u2 : h2.1 u = some (pcl tv ((p + k : Nat) : Int) st kd va w xa) := (x2.1 u (by omega) (fun z => z)).trans hu'
      have sz := B.sz
      rw [hd, show rn (isLt inp) n 0 (p + k) = p + k from rfl, show p + k - p = k by omega]
      refine ⟨(t_up h2.1 u (pcl tv ((p + k : Nat) : Int) st kd va hk.2.1 xa), h2.2), hk.2.1, ?_, ?_, t_up_s, (F2.le kb).up ul⟩
      · rw [b_X6_readLetters_8, gfI_at (k := 1) (x := iI ((p + k : Nat) : Int)) hu' rfl, Option.bind_some, gfR_at (k := 6) (q := xa) hu' rfl, Option.bind_some, va_rf_some, ck.len, Option.bind_some]
        simp (disch := omega) only [iI_lt]
        rw [if_neg (by omega), kN_at B.c1, Option.bind_some, bR_ex e2, va_rf_some, pf_at u2 (Nat.le_of_ble_eq_true rfl), Option.bind_some]
        rfl
      · have m2 := m.trans (x2.mono (M' := fun q => q = u ∨ hs.2.1 ≤ q) (fun q z => absurd z (fun z => z)) (Nat.le_refl _) (Nat.le_refl _))
        exact (m2.trans (Mx.up (c := 0) (d := 0) m2.2.2.2 u2 (Or.inl rfl))).le (by omega) (by omega)
    | succ d ih =>
      intro k hk v S hd hp' m hu' B hv
      have ck : CI hk.1 xa ia inp n := c.cg (m.1 xa xl (fun z => by rcases z with z | z; exact ne.1 z; omega)) (m.1 ia il (fun z => by rcases z with z | z; exact ne.2 z; omega))
      have hb := hI (p + k)
      have sb := sgn_b hb
      obtain ⟨-, s1, -⟩ := sgn_lo hb (a := 97) (by decide)
      obtain ⟨-, -, s2⟩ := sgn_lo hb (a := 122) (by decide)
      have kb := m.2.1.1
      have sz := B.sz
      rw [b_X6_readLetters_8, gfI_at (k := 1) (x := iI ((p + k : Nat) : Int)) hu' rfl, Option.bind_some, gfR_at (k := 6) (q := xa) hu' rfl, Option.bind_some, va_rf_some, ck.len, Option.bind_some]
      simp (disch := omega) only [iI_lt]
      rw [if_pos (by omega)]
      simp only [Option.bind_some, va_rf_some, ck.arr]
      rw [ck.ld (show p + k < n by omega) hn, Option.bind_some]
      simp (disch := omega) only [iI_lt]
      rw [rn_step]
      by_cases g1 : isLt inp (p + k) = true
      · have g := isB_iff.mp g1
        have sg : sgn (inp (p + k)) = inp (p + k) := by unfold sgn; rw [if_pos (by omega)]
        rw [if_neg (by omega), Option.bind_some]
        simp (disch := omega) only [iI_lt]
        rw [if_neg (by omega), Option.bind_some, sg, kN_at B.c1, Option.bind_some, chr16 (by omega) (by omega)]
        obtain ⟨h2, v2, S2, e2, B2, m2, hv2, q1, q2⟩ := c_sbApp (G := G) (z := hs.2.1) m.2.2.2 B (by omega) (Nat.le_refl _) hv (show 0 ≤ inp (p + k) ∧ inp (p + k) ≤ 127 by omega)
        have u2 : h2.1 u = some (pcl tv ((p + k : Nat) : Int) st kd va w xa) := (m2.1 u (by omega) (by omega)).trans hu'
        have bl := m2.2.2.2.lt B2.c1
        rw [bR_ex e2, gfI_at (k := 1) (x := iI ((p + k : Nat) : Int)) u2 rfl, Option.bind_some, pf_at u2 (Nat.le_of_ble_eq_true rfl), Option.bind_some, if_pos ⟨by omega, g1⟩, show iI ((p + k : Nat) : Int) + iI 1 = iI ((p + (k + 1) : Nat) : Int) from iI_add _ _]
        have m3 := m.trans (m2.mono (M' := fun q => q = u ∨ hs.2.1 ≤ q) (fun q z => Or.inr z) (Nat.le_refl _) (Nat.le_refl _))
        have m4 := m3.trans (Mx.up (c := 0) (d := 0) (e := pcl tv ((p + (k + 1) : Nat) : Int) st kd va w xa) m3.2.2.2 u2 (Or.inl rfl))
        have sl : 20 + 2 * S + (if k < S then 0 else S2) + 0 ≤ 20 + 2 * S2 := by
          by_cases c0 : k < S
          · rw [if_pos c0, q1 c0]; omega
          · rw [if_neg c0, q2 c0]; omega
        have B3 : SB (t_up h2.1 u (pcl tv ((p + (k + 1) : Nat) : Int) st kd va w xa)) hs.2.1 v2 S2 (k + 1) (fun j => inp (p + j)) := by
          obtain ⟨q, c2, c3⟩ := B2.c2
          exact ⟨(t_up_n (by omega)).trans B2.c1, ⟨q, (t_up_n (by omega)).trans c2, c3⟩, B2.ns, B2.sz, B2.lt⟩
        have := ih (k + 1) (t_up h2.1 u (pcl tv ((p + (k + 1) : Nat) : Int) st kd va w xa), h2.2) v2 S2 (by omega) (by omega) (m4.le (by omega) sl) t_up_s B3 hv2
        rw [show p + (k + 1) = p + k + 1 from rfl] at this
        exact this
      · have ng : ¬ (97 ≤ inp (p + k) ∧ inp (p + k) ≤ 122) := fun q => g1 (isB_iff.mpr q)
        obtain ⟨h2, e2, F2, x2⟩ := c_sbStr (G := G) m.2.2.2 B (by omega)
        have u2 : h2.1 u = some (pcl tv ((p + k : Nat) : Int) st kd va w xa) := (x2.1 u (by omega) (fun z => z)).trans hu'
        rw [if_neg (show ¬ (p + k < n ∧ isLt inp (p + k) = true) from fun q => g1 q.2), show p + k - p = k by omega]
        refine ⟨(t_up h2.1 u (pcl tv ((p + k : Nat) : Int) st kd va hk.2.1 xa), h2.2), hk.2.1, ?_, ?_, t_up_s, (F2.le kb).up ul⟩
        · by_cases q : sgn (inp (p + k)) < 97
          · rw [if_pos q, kN_at B.c1, Option.bind_some, bR_ex e2, va_rf_some, pf_at u2 (Nat.le_of_ble_eq_true rfl), Option.bind_some]
            rfl
          · rw [if_neg q, Option.bind_some]
            simp (disch := omega) only [iI_lt]
            rw [if_pos (by omega), kN_at B.c1, Option.bind_some, bR_ex e2, va_rf_some, pf_at u2 (Nat.le_of_ble_eq_true rfl), Option.bind_some]
            rfl
        · have m2 := m.trans (x2.mono (M' := fun q => q = u ∨ hs.2.1 ≤ q) (fun q z => absurd z (fun z => z)) (Nat.le_refl _) (Nat.le_refl _))
          exact (m2.trans (Mx.up (c := 0) (d := 0) m2.2.2.2 u2 (Or.inl rfl))).le (by omega) (by omega)
  have u1 : h1.1 u = some (pcl tv ((p + 0 : Nat) : Int) st kd va w xa) := (x1.1 u ul (fun z => z)).trans hu
  obtain ⟨hs', w', e', m', u', f'⟩ := lo (n - p) 0 h1 (hs.2.1 + 1) 16 rfl hp (x1.mono (fun q z => absurd z (fun z => z)) (by decide) (by decide)) u1 B1 (Nat.le_succ _)
  refine ⟨hs', w', ?_, m'.old, u', f'⟩
  rw [b_X6_readLetters_0, e1, bV_rV]
  exact e'
end LTT
