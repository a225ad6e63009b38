/-! ===== texts: their tokens, in plain numbers ===== -/
/-- the first place from p on that hasn't q -/
def rn (q : Nat → Bool) (n : Nat) : Nat → Nat → Nat
  | 0, p => p
  | f + 1, p => if p < n ∧ q p = true then rn q n f (p + 1) else p
def isSp (inp : Nat → Int) (j : Nat) : Bool := decide (inp j = 32)
def isLt (inp : Nat → Int) (j : Nat) : Bool := isB (inp j) 97 122
def isDg (inp : Nat → Int) (j : Nat) : Bool := isB (inp j) 48 57
/-- the number that starts at p -/
def vl (inp : Nat → Int) (n : Nat) : Nat → Nat → Int → Int
  | 0, _, v => v
  | f + 1, p, v => if p < n ∧ isDg inp p = true then vl inp n f (p + 1) (min 100000 (v * 10 + inp p - 48)) else v
def tkF (inp : Nat → Int) (n p : Nat) : Nat := rn (isSp inp) n (n - p) p
/-- 0 the end, 1 a word, 2 a number, 3 a semicolon, 4 bad -/
def tkK (inp : Nat → Int) (n p : Nat) : Int := if tkF inp n p = n then 0 else if isLt inp (tkF inp n p) = true then 1 else if isDg inp (tkF inp n p) = true then 2 else if inp (tkF inp n p) = 59 then 3 else 4
def tkT (inp : Nat → Int) (n p : Nat) : Nat := if tkK inp n p = 0 then tkF inp n p else if tkK inp n p = 1 then rn (isLt inp) n (n - tkF inp n p) (tkF inp n p) else if tkK inp n p = 2 then rn (isDg inp) n (n - tkF inp n p) (tkF inp n p) else tkF inp n p + 1
def tkV (inp : Nat → Int) (n p : Nat) : Int := vl inp n (n - tkF inp n p) (tkF inp n p) 0
theorem rn_b {q : Nat → Bool} {n : Nat} : ∀ {f p : Nat}, p ≤ n → p ≤ rn q n f p ∧ rn q n f p ≤ n := by
  intro f
  induction f with
  | zero => intro p hp; exact ⟨Nat.le_refl _, hp⟩
  | succ f ih =>
    intro p hp
    rw [rn]
    split
    · rename_i h
      have := ih (p := p + 1) (by omega)
      omega
    · exact ⟨Nat.le_refl _, hp⟩
/-- one step of it -/
theorem rn_step {q : Nat → Bool} {n p : Nat} : rn q n (n - p) p = if p < n ∧ q p = true then rn q n (n - (p + 1)) (p + 1) else p := by
  by_cases h : p < n
  · rw [show n - p = (n - (p + 1)) + 1 by omega, rn]
  · rw [show n - p = 0 by omega, rn, if_neg (fun z => h z.1)]
theorem vl_step {inp : Nat → Int} {n p : Nat} {v : Int} : vl inp n (n - p) p v = if p < n ∧ isDg inp p = true then vl inp n (n - (p + 1)) (p + 1) (min 100000 (v * 10 + inp p - 48)) else v := by
  by_cases h : p < n
  · rw [show n - p = (n - (p + 1)) + 1 by omega, vl]
  · rw [show n - p = 0 by omega, vl, if_neg (fun z => h z.1)]
theorem vl_b {inp : Nat → Int} {n : Nat} (h : ∀ j, 0 ≤ inp j) : ∀ {f p : Nat} {v : Int}, 0 ≤ v ∧ v ≤ 100000 → 0 ≤ vl inp n f p v ∧ vl inp n f p v ≤ 100000 := by
  intro f
  induction f with
  | zero => intro p v hv; exact hv
  | succ f ih =>
    intro p v hv
    rw [vl]
    split
    · rename_i hh
      refine ih ?_
      have := isB_iff.mp hh.2
      omega
    · exact hv
theorem tkF_b {inp : Nat → Int} {n p : Nat} (hp : p ≤ n) : p ≤ tkF inp n p ∧ tkF inp n p ≤ n := rn_b hp
theorem tkT_b {inp : Nat → Int} {n p : Nat} (hp : p ≤ n) : tkF inp n p ≤ tkT inp n p ∧ tkT inp n p ≤ n ∧ (tkK inp n p ≠ 0 → tkF inp n p < tkT inp n p) := by
  have h1 := tkF_b (inp := inp) hp
  have hf : tkK inp n p ≠ 0 → tkF inp n p < n := fun h => by
    by_cases c : tkF inp n p = n
    · exact absurd (by unfold tkK; rw [if_pos c]) h
    · omega
  unfold tkT
  by_cases c0 : tkK inp n p = 0
  · rw [if_pos c0]; exact ⟨Nat.le_refl _, h1.2, fun h => absurd c0 h⟩
  rw [if_neg c0]
  have hlt := hf c0
  by_cases c1 : tkK inp n p = 1
  · rw [if_pos c1]
    have hq : isLt inp (tkF inp n p) = true := by
      unfold tkK at c1
      by_cases a1 : tkF inp n p = n
      · omega
      · rw [if_neg a1] at c1
        by_cases a2 : isLt inp (tkF inp n p) = true
        · exact a2
        · rw [if_neg a2] at c1
          split at c1
          · omega
          · split at c1 <;> omega
    have := rn_step (q := isLt inp) (n := n) (p := tkF inp n p)
    rw [if_pos ⟨hlt, hq⟩] at this
    have h2 := rn_b (q := isLt inp) (n := n) (f := n - (tkF inp n p + 1)) (p := tkF inp n p + 1) (by omega)
    omega
  rw [if_neg c1]
  by_cases c2 : tkK inp n p = 2
  · rw [if_pos c2]
    have hq : isDg inp (tkF inp n p) = true := by
      unfold tkK at c2
      by_cases a1 : tkF inp n p = n
      · omega
      · rw [if_neg a1] at c2
        split at c2
        · omega
        · by_cases a3 : isDg inp (tkF inp n p) = true
          · exact a3
          · rw [if_neg a3] at c2
            split at c2 <;> omega
    have := rn_step (q := isDg inp) (n := n) (p := tkF inp n p)
    rw [if_pos ⟨hlt, hq⟩] at this
    have h2 := rn_b (q := isDg inp) (n := n) (f := n - (tkF inp n p + 1)) (p := tkF inp n p + 1) (by omega)
    omega
  rw [if_neg c2]
  omega
/-- all of the first n have it -/
def al (p : Nat → Bool) : Nat → Bool
  | 0 => true
  | n + 1 => al p n && p n
theorem al_iff {p : Nat → Bool} : ∀ {n : Nat}, al p n = true ↔ ∀ k, k < n → p k = true := by
  intro n
  induction n with
  | zero => exact ⟨fun _ k hk => absurd hk (Nat.not_lt_zero k), fun _ => rfl⟩
  | succ n ih =>
    rw [al, Bool.and_eq_true, ih]
    constructor
    · rintro ⟨h1, h2⟩ k hk
      rcases Nat.lt_succ_iff_lt_or_eq.mp hk with h | rfl
      · exact h1 k h
      · exact h2
    · exact fun h => ⟨fun k hk => h k (Nat.lt_succ_of_lt hk), h n (Nat.lt_succ_self n)⟩
/-- a loop that is left at the first that hasn't it -/
theorem lp_all {β : Type} {F : Nat → β} {p : Nat → Bool} {r : β} {N : Nat} (h : ∀ k, k < N → F k = if p k = true then F (k + 1) else r) : F 0 = if al p N = true then F N else r := by
  induction N with
  | zero => rfl
  | succ n ih =>
    rw [ih fun k hk => h k (Nat.lt_succ_of_lt hk), al]
    cases h1 : al p n with
    | false => rfl
    | true =>
      rw [if_pos rfl, h n (Nat.lt_succ_self n), Bool.true_and]
/-- a word stands at the token p -/
def wrd (inp : Nat → Int) (n p : Nat) (l : List Int) : Bool := decide (tkK inp n p = 1) && (decide (tkT inp n p - tkF inp n p = l.length) && al (fun k => decide (inp (tkF inp n p + k) = l.getD k 0)) l.length)
/-! the model reads them -/
/-- the input is what it should be -/
abbrev IB (inp : Nat → Int) : Prop := ∀ j, 0 ≤ inp j ∧ inp j ≤ 255
section LX
variable {G : tG} {m : Nat} {fi : Nat → Int} {ar : Nat → Nat → Int} {g : tAH} {z : Nat × Nat} {hs : tHS}
theorem e_isLetter {n k : Nat} (hn : fi 13 = n) (h6 : n ≤ 600) (hI : IB (ar 8)) (hk : k ≤ 600) : t_Ev (t_pg G) t_hd Y_X5_isLetter 0 ([some (.ref m), some (.int (iI (k : Int)))], [], (hM m fi ar g, z)) = rB (decide (k < n) && isLt (ar 8) k) (hM m fi ar g, z) := by
  rw [b_X5_isLetter_0]
  simp (disch := omega) only [mK, mgI6, mgI7, mgI13, mgI14, mgI15, mgI16, mgI17, mgI18, mgI19, mgI20, mgI21, mgI22, mgI23, mgI24, mgI25, mgI26, mgI27, mgR0, mgR1, mgR2, mgR3, mgR4, mgR5, mgR8, mgR9, mgR10, mgR11, mgR12, Option.bind_some, va_rf_some, va_rf_none, bI_rI, bI_rB, bV_rV, bB_0, bB_1, iI_add, iI_sub, iI_mul, iI_neg, rI_of, rV_of, Int.reduceToNat, Int.neg_neg, iI_lt, hn]
  by_cases c : k < n
  · have hb := hI k
    rw [if_pos (by omega)]
    simp (disch := omega) only [Option.bind_some, va_rf_some, va_rf_none, bI_rI, bI_rB, bV_rV, bB_0, bB_1, iI_add, iI_sub, iI_mul, iI_neg, rI_of, rV_of, Int.reduceToNat, Int.neg_neg, mld8, Int.toNat_natCast, e_isIn, decide_eq_true c, Bool.true_and]
    unfold isLt
    cases isB (ar 8 k) 97 122 <;> rfl
  · rw [if_neg (by omega), decide_eq_false c]; rfl
theorem e_isDigit {n k : Nat} (hn : fi 13 = n) (h6 : n ≤ 600) (hI : IB (ar 8)) (hk : k ≤ 600) : t_Ev (t_pg G) t_hd Y_X5_isDigit 0 ([some (.ref m), some (.int (iI (k : Int)))], [], (hM m fi ar g, z)) = rB (decide (k < n) && isDg (ar 8) k) (hM m fi ar g, z) := by
  rw [b_X5_isDigit_0]
  simp (disch := omega) only [mK, mgI6, mgI7, mgI13, mgI14, mgI15, mgI16, mgI17, mgI18, mgI19, mgI20, mgI21, mgI22, mgI23, mgI24, mgI25, mgI26, mgI27, mgR0, mgR1, mgR2, mgR3, mgR4, mgR5, mgR8, mgR9, mgR10, mgR11, mgR12, Option.bind_some, va_rf_some, va_rf_none, bI_rI, bI_rB, bV_rV, bB_0, bB_1, iI_add, iI_sub, iI_mul, iI_neg, rI_of, rV_of, Int.reduceToNat, Int.neg_neg, iI_lt, hn]
  by_cases c : k < n
  · have hb := hI k
    rw [if_pos (by omega)]
    simp (disch := omega) only [Option.bind_some, va_rf_some, va_rf_none, bI_rI, bI_rB, bV_rV, bB_0, bB_1, iI_add, iI_sub, iI_mul, iI_neg, rI_of, rV_of, Int.reduceToNat, Int.neg_neg, mld8, Int.toNat_natCast, e_isIn, decide_eq_true c, Bool.true_and]
    unfold isDg
    cases isB (ar 8 k) 48 57 <;> rfl
  · rw [if_neg (by omega), decide_eq_false c]; rfl
/-- the present token is the one that starts at p -/
def MT (fi : Nat → Int) (inp : Nat → Int) (n p : Nat) : Prop := fi 18 = tkK inp n p ∧ fi 19 = (tkF inp n p : Int) ∧ fi 20 = (tkT inp n p : Int) ∧ (tkK inp n p = 2 → fi 21 = tkV inp n p)
theorem hM_fU {k : Nat} {v : Int} (h : fi k = v) : fU fi k v = fi := by
  funext j
  unfold fU
  by_cases c : j = k
  · rw [if_pos c, c, h]
  · rw [if_neg c]
theorem e_next {n p : Nat} (hn : fi 13 = n) (h6 : n ≤ 600) (hI : IB (ar 8)) (hp : p ≤ n) (h20 : fi 20 = p) : ∃ fi', t_Ev (t_pg G) t_hd Y_X5_next 0 ([some (.ref m)], [], (hM m fi ar g, z)) = rV (hM m fi' ar g, z) ∧ Sc [18, 19, 20, 21] [] fi ar fi' ar ∧ MT fi' (ar 8) n p := by
  -- spaces
  have sp : ∀ (d p : Nat) (f : Nat → Int), n - p = d → p ≤ n → f 13 = n → f 20 = p → t_Ev (t_pg G) t_hd Y_X5_next 0 ([some (.ref m)], [], (hM m f ar g, z)) = t_Ev (t_pg G) t_hd Y_X5_next 38 ([some (.ref m)], [], (hM m (fU f 20 (tkF (ar 8) n p)) ar g, z)) := by
    intro d
    induction d with
    | zero =>
      intro p f hd hp h13 h20
      have hpn : p = n := by omega
      rw [show tkF (ar 8) n p = p by unfold tkF; rw [hd]; rfl, hM_fU h20, b_X5_next_0]
      simp (disch := omega) only [mK, mgI6, mgI7, mgI13, mgI14, mgI15, mgI16, mgI17, mgI18, mgI19, mgI20, mgI21, mgI22, mgI23, mgI24, mgI25, mgI26, mgI27, mgR0, mgR1, mgR2, mgR3, mgR4, mgR5, mgR8, mgR9, mgR10, mgR11, mgR12, Option.bind_some, va_rf_some, va_rf_none, bI_rI, bI_rB, bV_rV, bB_0, bB_1, iI_add, iI_sub, iI_mul, iI_neg, rI_of, rV_of, Int.reduceToNat, Int.neg_neg, iI_lt, h13, h20]
      rw [if_neg (by omega)]
    | succ d ih =>
      intro p f hd hp h13 h20
      have hb := hI p
      have hst := rn_step (q := isSp (ar 8)) (n := n) (p := p)
      rw [b_X5_next_0]
      simp (disch := omega) only [mK, mgI6, mgI7, mgI13, mgI14, mgI15, mgI16, mgI17, mgI18, mgI19, mgI20, mgI21, mgI22, mgI23, mgI24, mgI25, mgI26, mgI27, mgR0, mgR1, mgR2, mgR3, mgR4, mgR5, mgR8, mgR9, mgR10, mgR11, mgR12, Option.bind_some, va_rf_some, va_rf_none, bI_rI, bI_rB, bV_rV, bB_0, bB_1, iI_add, iI_sub, iI_mul, iI_neg, rI_of, rV_of, Int.reduceToNat, Int.neg_neg, iI_lt, h13, h20]
      rw [if_pos (by omega)]
      simp (disch := omega) only [mld8, Option.bind_some, Int.toNat_natCast, iI_inj, mpI20]
      by_cases c : ar 8 p = 32
      · rw [if_pos c]
        rw [if_pos ⟨by omega, by unfold isSp; rw [c]; rfl⟩] at hst
        rw [show ((p : Nat) : Int) + 1 = ((p + 1 : Nat) : Int) from rfl, ih (p + 1) (fU f 20 ((p + 1 : Nat) : Int)) (by omega) (by omega) ((fU_n (by decide)).trans h13) fU_s, fU_fU]
        rw [show tkF (ar 8) n p = tkF (ar 8) n (p + 1) from hst]
      · rw [if_neg c]
        rw [if_neg (fun z => c (by have := z.2; unfold isSp at this; simpa using this))] at hst
        rw [show tkF (ar 8) n p = p from hst, hM_fU h20]
  have hF := tkF_b (inp := ar 8) hp
  have hTb := tkT_b (inp := ar 8) hp
  rw [sp _ p fi rfl hp hn h20, b_X5_next_38]
  obtain ⟨q, hq⟩ : ∃ q, q = tkF (ar 8) n p := ⟨_, rfl⟩
  have hqn : q ≤ n := by omega
  simp (disch := first | omega | decide) only [mK, mgI6, mgI7, mgI13, mgI14, mgI15, mgI16, mgI17, mgI18, mgI19, mgI20, mgI21, mgI22, mgI23, mgI24, mgI25, mgI26, mgI27, mgR0, mgR1, mgR2, mgR3, mgR4, mgR5, mgR8, mgR9, mgR10, mgR11, mgR12, Option.bind_some, va_rf_some, va_rf_none, bI_rI, bI_rB, bV_rV, bB_0, bB_1, iI_add, iI_sub, iI_mul, iI_neg, rI_of, rV_of, Int.reduceToNat, Int.neg_neg, mpI6, mpI7, mpI13, mpI14, mpI15, mpI16, mpI17, mpI18, mpI19, mpI20, mpI21, mpI22, mpI23, mpI24, mpI25, mpI26, mpI27, fU_s, fU_n, hn, iI_inj]
  rw [← hq]
  -- letters
  have lt : ∀ (d p : Nat) (f : Nat → Int), n - p = d → p ≤ n → f 13 = n → f 20 = p → t_Ev (t_pg G) t_hd Y_X5_next 81 ([some (.ref m)], [], (hM m f ar g, z)) = rV (hM m (fU f 20 (rn (isLt (ar 8)) n (n - p) p)) ar g, z) := by
    intro d
    induction d with
    | zero =>
      intro p f hd hp h13 h20
      rw [hd, show rn (isLt (ar 8)) n 0 p = p from rfl, hM_fU h20, b_X5_next_81]
      simp (disch := omega) only [mK, mgI6, mgI7, mgI13, mgI14, mgI15, mgI16, mgI17, mgI18, mgI19, mgI20, mgI21, mgI22, mgI23, mgI24, mgI25, mgI26, mgI27, mgR0, mgR1, mgR2, mgR3, mgR4, mgR5, mgR8, mgR9, mgR10, mgR11, mgR12, Option.bind_some, va_rf_some, va_rf_none, bI_rI, bI_rB, bV_rV, bB_0, bB_1, iI_add, iI_sub, iI_mul, iI_neg, rI_of, rV_of, Int.reduceToNat, Int.neg_neg, h20, e_isLetter h13 h6 hI, decide_eq_false (show ¬ p < n by omega), Bool.false_and, if_true]
    | succ d ih =>
      intro p f hd hp h13 h20
      rw [rn_step, b_X5_next_81]
      simp (disch := omega) only [mK, mgI6, mgI7, mgI13, mgI14, mgI15, mgI16, mgI17, mgI18, mgI19, mgI20, mgI21, mgI22, mgI23, mgI24, mgI25, mgI26, mgI27, mgR0, mgR1, mgR2, mgR3, mgR4, mgR5, mgR8, mgR9, mgR10, mgR11, mgR12, Option.bind_some, va_rf_some, va_rf_none, bI_rI, bI_rB, bV_rV, bB_0, bB_1, iI_add, iI_sub, iI_mul, iI_neg, rI_of, rV_of, Int.reduceToNat, Int.neg_neg, h20, e_isLetter h13 h6 hI, decide_eq_true (show p < n by omega), Bool.true_and, mpI20]
      cases c : isLt (ar 8) p with
      | true =>
        rw [if_neg (by decide), if_pos ⟨by omega, rfl⟩, show ((p : Nat) : Int) + 1 = ((p + 1 : Nat) : Int) from rfl, ih (p + 1) (fU f 20 ((p + 1 : Nat) : Int)) (by omega) (by omega) ((fU_n (by decide)).trans h13) fU_s, fU_fU]
      | false => rw [if_pos rfl, if_neg (fun z => by cases z.2), hM_fU h20]
  -- digits
  have dg : ∀ (d p : Nat) (f : Nat → Int) (v : Int), n - p = d → p ≤ n → f 13 = n → f 20 = p → f 21 = v → (0 ≤ v ∧ v ≤ 100000) → t_Ev (t_pg G) t_hd Y_X5_next 126 ([some (.ref m)], [], (hM m f ar g, z)) = rV (hM m (fU (fU f 21 (vl (ar 8) n (n - p) p v)) 20 (rn (isDg (ar 8)) n (n - p) p)) ar g, z) := by
    intro d
    induction d with
    | zero =>
      intro p f v hd hp h13 h20 h21 hv
      rw [hd, show rn (isDg (ar 8)) n 0 p = p from rfl, show vl (ar 8) n 0 p v = v from rfl, hM_fU h21, hM_fU h20, b_X5_next_126]
      simp (disch := omega) only [mK, mgI6, mgI7, mgI13, mgI14, mgI15, mgI16, mgI17, mgI18, mgI19, mgI20, mgI21, mgI22, mgI23, mgI24, mgI25, mgI26, mgI27, mgR0, mgR1, mgR2, mgR3, mgR4, mgR5, mgR8, mgR9, mgR10, mgR11, mgR12, Option.bind_some, va_rf_some, va_rf_none, bI_rI, bI_rB, bV_rV, bB_0, bB_1, iI_add, iI_sub, iI_mul, iI_neg, rI_of, rV_of, Int.reduceToNat, Int.neg_neg, h20, e_isDigit h13 h6 hI, decide_eq_false (show ¬ p < n by omega), Bool.false_and, if_true]
    | succ d ih =>
      intro p f v hd hp h13 h20 h21 hv
      have hb := hI p
      rw [rn_step, vl_step, b_X5_next_126]
      simp (disch := omega) only [mK, mgI6, mgI7, mgI13, mgI14, mgI15, mgI16, mgI17, mgI18, mgI19, mgI20, mgI21, mgI22, mgI23, mgI24, mgI25, mgI26, mgI27, mgR0, mgR1, mgR2, mgR3, mgR4, mgR5, mgR8, mgR9, mgR10, mgR11, mgR12, Option.bind_some, va_rf_some, va_rf_none, bI_rI, bI_rB, bV_rV, bB_0, bB_1, iI_add, iI_sub, iI_mul, iI_neg, rI_of, rV_of, Int.reduceToNat, Int.neg_neg, h20, e_isDigit h13 h6 hI, decide_eq_true (show p < n by omega), Bool.true_and]
      cases c : isDg (ar 8) p with
      | true =>
        rw [if_neg (by decide), if_pos ⟨by omega, rfl⟩, if_pos ⟨by omega, rfl⟩]
        have hc := isB_iff.mp c
        simp (disch := first | omega | decide) only [mK, mgI6, mgI7, mgI13, mgI14, mgI15, mgI16, mgI17, mgI18, mgI19, mgI20, mgI21, mgI22, mgI23, mgI24, mgI25, mgI26, mgI27, mgR0, mgR1, mgR2, mgR3, mgR4, mgR5, mgR8, mgR9, mgR10, mgR11, mgR12, Option.bind_some, va_rf_some, va_rf_none, bI_rI, bI_rB, bV_rV, bB_0, bB_1, iI_add, iI_sub, iI_mul, iI_neg, rI_of, rV_of, Int.reduceToNat, Int.neg_neg, h20, h21, mld8, Int.toNat_natCast, e_min, mpI21, mpI20, fU_n]
        rw [show ((p : Nat) : Int) + 1 = ((p + 1 : Nat) : Int) from rfl, ih (p + 1) (fU (fU f 21 (min 100000 (v * 10 + ar 8 p - 48))) 20 ((p + 1 : Nat) : Int)) (min 100000 (v * 10 + ar 8 p - 48)) (by omega) (by omega) ((fU_n (by decide)).trans ((fU_n (by decide)).trans h13)) fU_s ((fU_n (by decide)).trans fU_s) (by omega)]
        rw [fU_comm (f := fU f 21 _) (i := 20) (j := 21) (by decide), fU_fU, fU_fU]
      | false => rw [if_pos rfl, if_neg (fun z => by cases z.2), if_neg (fun z => by cases z.2), hM_fU h21, hM_fU h20]
  by_cases c0 : q = n
  · rw [if_pos (by omega)]
    have hk : tkK (ar 8) n p = 0 := by unfold tkK; rw [if_pos (by omega)]
    refine ⟨_, rfl, ((Sc.refl.fU (by decide)).fU (by decide)).fU (by decide), ?_, ?_, ?_, fun w => by omega⟩
    · rw [fU_s, hk]
    · rw [fU_n (by decide), fU_s, hq]
    · rw [fU_n (by decide), fU_n (by decide), fU_s]
      unfold tkT; rw [if_pos hk, hq]
  rw [if_neg (by omega)]
  have hb := hI q
  have f13 : fU (fU fi 20 q) 19 q 13 = n := (fU_n (by decide)).trans ((fU_n (by decide)).trans hn)
  have f20 : fU (fU fi 20 (q : Int)) 19 q 20 = q := (fU_n (by decide)).trans fU_s
  have hF1 : tkF (ar 8) n p ≠ n := by omega
  simp (disch := omega) only [mK, mgI6, mgI7, mgI13, mgI14, mgI15, mgI16, mgI17, mgI18, mgI19, mgI20, mgI21, mgI22, mgI23, mgI24, mgI25, mgI26, mgI27, mgR0, mgR1, mgR2, mgR3, mgR4, mgR5, mgR8, mgR9, mgR10, mgR11, mgR12, Option.bind_some, va_rf_some, va_rf_none, bI_rI, bI_rB, bV_rV, bB_0, bB_1, iI_add, iI_sub, iI_mul, iI_neg, rI_of, rV_of, Int.reduceToNat, Int.neg_neg, e_isLetter f13 h6 hI, decide_eq_true (show q < n by omega), Bool.true_and, mpI18]
  cases c1 : isLt (ar 8) q with
  | true =>
    have hk : tkK (ar 8) n p = 1 := by unfold tkK; rw [if_neg hF1, if_pos (by rw [← hq]; exact c1)]
    rw [if_neg (by decide), lt _ q (fU (fU (fU fi 20 q) 19 q) 18 1) rfl hqn ((fU_n (by decide)).trans f13) ((fU_n (by decide)).trans f20)]
    refine ⟨_, rfl, (((Sc.refl.fU (by decide)).fU (by decide)).fU (by decide)).fU (by decide), ?_, ?_, ?_, fun w => by omega⟩
    · rw [fU_n (by decide), fU_s, hk]
    · rw [fU_n (by decide), fU_n (by decide), fU_s, hq]
    · rw [fU_s]; unfold tkT; rw [if_neg (by omega), if_pos hk, hq]
  | false =>
  rw [if_pos rfl]
  simp (disch := omega) only [mK, mgI6, mgI7, mgI13, mgI14, mgI15, mgI16, mgI17, mgI18, mgI19, mgI20, mgI21, mgI22, mgI23, mgI24, mgI25, mgI26, mgI27, mgR0, mgR1, mgR2, mgR3, mgR4, mgR5, mgR8, mgR9, mgR10, mgR11, mgR12, Option.bind_some, va_rf_some, va_rf_none, bI_rI, bI_rB, bV_rV, bB_0, bB_1, iI_add, iI_sub, iI_mul, iI_neg, rI_of, rV_of, Int.reduceToNat, Int.neg_neg, f20, e_isDigit f13 h6 hI, decide_eq_true (show q < n by omega), Bool.true_and, mpI18, mpI21]
  have hk1 : tkK (ar 8) n p ≠ 1 := by
    unfold tkK; rw [if_neg hF1, if_neg (by rw [← hq, c1]; decide)]
    split
    · decide
    · split <;> decide
  cases c2 : isDg (ar 8) q with
  | true =>
    have hk : tkK (ar 8) n p = 2 := by unfold tkK; rw [if_neg hF1, if_neg (by rw [← hq, c1]; decide), if_pos (by rw [← hq]; exact c2)]
    rw [if_neg (by decide), dg _ q (fU (fU (fU (fU fi 20 q) 19 q) 18 2) 21 0) 0 rfl hqn ((fU_n (by decide)).trans ((fU_n (by decide)).trans f13)) ((fU_n (by decide)).trans ((fU_n (by decide)).trans f20)) fU_s (by omega)]
    refine ⟨_, rfl, (((((Sc.refl.fU (by decide)).fU (by decide)).fU (by decide)).fU (by decide)).fU (by decide)).fU (by decide), ?_, ?_, ?_, fun w => ?_⟩
    · rw [fU_n (by decide), fU_n (by decide), fU_n (by decide), fU_s, hk]
    · rw [fU_n (by decide), fU_n (by decide), fU_n (by decide), fU_n (by decide), fU_s, hq]
    · rw [fU_s]; unfold tkT; rw [if_neg (by omega), if_neg (by omega), if_pos hk, hq]
    · rw [fU_n (by decide), fU_s]; unfold tkV; rw [hq]
  | false =>
  rw [if_pos rfl]
  simp (disch := first | omega | decide) only [mK, mgI6, mgI7, mgI13, mgI14, mgI15, mgI16, mgI17, mgI18, mgI19, mgI20, mgI21, mgI22, mgI23, mgI24, mgI25, mgI26, mgI27, mgR0, mgR1, mgR2, mgR3, mgR4, mgR5, mgR8, mgR9, mgR10, mgR11, mgR12, Option.bind_some, va_rf_some, va_rf_none, bI_rI, bI_rB, bV_rV, bB_0, bB_1, iI_add, iI_sub, iI_mul, iI_neg, rI_of, rV_of, Int.reduceToNat, Int.neg_neg, mld8, Int.toNat_natCast, f20, iI_inj, fU_n, fU_s]
  by_cases c3 : ar 8 q = 59
  · have hk : tkK (ar 8) n p = 3 := by unfold tkK; rw [if_neg hF1, if_neg (by rw [← hq, c1]; decide), if_neg (by rw [← hq, c2]; decide), if_pos (by rw [← hq]; exact c3)]
    rw [if_pos c3]
    simp (disch := first | omega | decide) only [mK, mgI6, mgI7, mgI13, mgI14, mgI15, mgI16, mgI17, mgI18, mgI19, mgI20, mgI21, mgI22, mgI23, mgI24, mgI25, mgI26, mgI27, mgR0, mgR1, mgR2, mgR3, mgR4, mgR5, mgR8, mgR9, mgR10, mgR11, mgR12, Option.bind_some, va_rf_some, va_rf_none, bI_rI, bI_rB, bV_rV, bB_0, bB_1, iI_add, iI_sub, iI_mul, iI_neg, rI_of, rV_of, Int.reduceToNat, Int.neg_neg, mpI6, mpI7, mpI13, mpI14, mpI15, mpI16, mpI17, mpI18, mpI19, mpI20, mpI21, mpI22, mpI23, mpI24, mpI25, mpI26, mpI27, fU_s, fU_n]
    refine ⟨_, rfl, (((Sc.refl.fU (by decide)).fU (by decide)).fU (by decide)).fU (by decide), ?_, ?_, ?_, fun w => by omega⟩
    · rw [fU_n (by decide), fU_s, hk]
    · rw [fU_n (by decide), fU_n (by decide), fU_s, hq]
    · rw [fU_s]; unfold tkT; rw [if_neg (by omega), if_neg (by omega), if_neg (by omega)]; omega
  · have hk : tkK (ar 8) n p = 4 := by unfold tkK; rw [if_neg hF1, if_neg (by rw [← hq, c1]; decide), if_neg (by rw [← hq, c2]; decide), if_neg (by rw [← hq]; exact c3)]
    rw [if_neg c3]
    simp (disch := first | omega | decide) only [mK, mgI6, mgI7, mgI13, mgI14, mgI15, mgI16, mgI17, mgI18, mgI19, mgI20, mgI21, mgI22, mgI23, mgI24, mgI25, mgI26, mgI27, mgR0, mgR1, mgR2, mgR3, mgR4, mgR5, mgR8, mgR9, mgR10, mgR11, mgR12, Option.bind_some, va_rf_some, va_rf_none, bI_rI, bI_rB, bV_rV, bB_0, bB_1, iI_add, iI_sub, iI_mul, iI_neg, rI_of, rV_of, Int.reduceToNat, Int.neg_neg, mpI6, mpI7, mpI13, mpI14, mpI15, mpI16, mpI17, mpI18, mpI19, mpI20, mpI21, mpI22, mpI23, mpI24, mpI25, mpI26, mpI27, fU_s, fU_n]
    refine ⟨_, rfl, (((Sc.refl.fU (by decide)).fU (by decide)).fU (by decide)).fU (by decide), ?_, ?_, ?_, fun w => by omega⟩
    · rw [fU_n (by decide), fU_s, hk]
    · rw [fU_n (by decide), fU_n (by decide), fU_s, hq]
    · rw [fU_s]; unfold tkT; rw [if_neg (by omega), if_neg (by omega), if_neg (by omega)]; omega
end LX
