/-! ===== the straps' effect: the counts are the differences ===== -/
/-- whether two cells of a placement lie at the edge t -/
def hitB (sh r x y : Int) (t k o : Nat) : Bool := decide (((cX sh r x o - cX sh r x k) + (cY sh r y o - cY sh r y k) = 1 ∧ (cX sh r x o - cX sh r x k) * (cY sh r y o - cY sh r y k) = 0) ∧ t = ((if cX sh r x o - cX sh r x k = 1 then 0 else 64) + (cY sh r y k * 8 + cX sh r x k)).toNat)
def hitN (sh r x y : Int) (t : Nat) : Int := sm (fun k => sm (fun o => bB (hitB sh r x y t k o)) (shN sh)) (shN sh)
theorem ceS_at {sh r x y : Int} {k o t : Nat} {acc : Nat → Int} : ceS sh r x y k o acc t = acc t + bB (hitB sh r x y t k o) := by
  unfold ceS hitB
  by_cases c : (cX sh r x o - cX sh r x k) + (cY sh r y o - cY sh r y k) = 1 ∧ (cX sh r x o - cX sh r x k) * (cY sh r y o - cY sh r y k) = 0
  · rw [if_pos c]
    by_cases c2 : t = ((if cX sh r x o - cX sh r x k = 1 then 0 else 64) + (cY sh r y k * 8 + cX sh r x k)).toNat
    · rw [decide_eq_true ⟨c, c2⟩, ← c2, fU_s]; rfl
    · rw [decide_eq_false fun z => c2 z.2, fU_n c2, bB_f, Int.add_zero]
  · rw [if_neg c, decide_eq_false fun z => c z.1, bB_f, Int.add_zero]
theorem ceF_at {sh r x y : Int} {t : Nat} {acc : Nat → Int} : ceF sh r x y acc t = acc t + hitN sh r x y t := by
  unfold ceF hitN
  refine (fd_map (π := fun acc : Nat → Int => acc t) (g := fun k q => q + sm (fun o => bB (hitB sh r x y t k o)) (shN sh)) fun k a => ?_).trans fd_sum
  exact (fd_map (π := fun acc : Nat → Int => acc t) (g := fun o q => q + bB (hitB sh r x y t k o)) fun o a => ceS_at).trans fd_sum
/-- a sum over all placements that fit -/
theorem vF_sum {s : tRow} {φ : Int → Bool} {w : Int → Int → Int → Int → Int} {q : Int} : vF s φ (fun sh r x y q => q + w sh r x y) q = q + sm (fun sh => if φ sh = true then sm (fun r => sm (fun y => sm (fun x => if mf s sh r x y = 0 then w sh r x y else 0) (s 0).toNat) (s 1).toNat) 4 else 0) 5 := by
  unfold vF
  rw [← fd_sum]
  refine fd_congr fun sh _ q => ?_
  by_cases c : φ sh = true
  · rw [if_pos c, if_pos c]
    unfold vR
    rw [← fd_sum]
    refine fd_congr fun r _ q => ?_
    unfold vY
    rw [← fd_sum]
    refine fd_congr fun y _ q => ?_
    unfold vX
    rw [← fd_sum]
    refine fd_congr fun x _ q => ?_
    by_cases c2 : mf s sh r x y = 0
    · rw [if_pos c2, if_pos c2]
    · rw [if_neg c2, if_neg c2, Int.add_zero]
  · rw [if_neg c, if_neg c, Int.add_zero]
theorem ctE_at {s : tRow} {t : Nat} : ctE s t = sm (fun sh => if decide (0 < ofS s (1 - s 2) (2 + (sh : Int))) = true then sm (fun r => sm (fun y => sm (fun x => if mf s sh r x y = 0 then hitN sh r x y t else 0) (s 0).toNat) (s 1).toNat) 4 else 0) 5 := by
  unfold ctE
  rw [vF_map (π := fun acc : Nat → Int => acc t) (g := fun sh r x y q => q + hitN sh r x y t) fun _ _ _ _ _ => ceF_at, vF_sum, Int.zero_add]
theorem cXY_eq {sh r x y : Int} (h1 : 0 ≤ sh ∧ sh ≤ 4) (h2 : 0 ≤ r ∧ r ≤ 3) {j k : Nat} (hj : j < shN sh) (hk : k < shN sh) (h : cX sh r x j = cX sh r x k ∧ cY sh r y j = cY sh r y k) : j = k := by
  rcases Nat.lt_trichotomy j k with c | c | c
  · exact absurd h (cXY_ne h1.1 h1.2 h2.1 h2.2 c hk)
  · exact c
  · exact absurd ⟨h.1.symm, h.2.symm⟩ (cXY_ne h1.1 h1.2 h2.1 h2.2 c hj)
theorem sm_one {p : Nat → Bool} : ∀ {n : Nat}, (∀ j k, j < n → k < n → p j = true → p k = true → j = k) → sm (fun k => bB (p k)) n = bB (an p n) := by
  intro n
  induction n with
  | zero => intro _; rfl
  | succ n ih =>
    intro h
    rw [sm, an, ih fun j k hj hk => h j k (Nat.lt_succ_of_lt hj) (Nat.lt_succ_of_lt hk)]
    cases c : p n with
    | false => rw [Bool.or_false, bB_f, Int.add_zero]
    | true =>
      rw [show an p n = false from an_false.mpr fun k hk => Bool.eq_false_iff.mpr fun e => by have := h k n (Nat.lt_succ_of_lt hk) (Nat.lt_succ_self n) e c; omega]
      rfl
theorem hit_iff {sh r x y : Int} {t k o : Nat} (hk : (0 ≤ cX sh r x k ∧ cX sh r x k ≤ 7) ∧ 0 ≤ cY sh r y k ∧ cY sh r y k ≤ 7) : hitB sh r x y t k o = true ↔ ((cX sh r x o = cX sh r x k + 1 ∧ cY sh r y o = cY sh r y k) ∧ (t : Int) = cY sh r y k * 8 + cX sh r x k) ∨ ((cX sh r x o = cX sh r x k ∧ cY sh r y o = cY sh r y k + 1) ∧ (t : Int) = 64 + (cY sh r y k * 8 + cX sh r x k)) := by
  unfold hitB
  rw [decide_eq_true_iff]
  generalize cX sh r x o = xo
  generalize cY sh r y o = yo
  generalize cX sh r x k = xk at hk ⊢
  generalize cY sh r y k = yk at hk ⊢
  constructor
  · rintro ⟨⟨h1, h2⟩, h3⟩
    rcases Int.mul_eq_zero.mp h2 with h | h
    · rw [if_neg (by omega)] at h3
      exact Or.inr (by omega)
    · rw [if_pos (by omega)] at h3
      exact Or.inl (by omega)
  · rintro (⟨⟨h1, h2⟩, h3⟩ | ⟨⟨h1, h2⟩, h3⟩)
    · refine ⟨⟨by omega, ?_⟩, ?_⟩
      · rw [show yo - yk = 0 by omega, Int.mul_zero]
      · rw [if_pos (by omega)]; omega
    · refine ⟨⟨by omega, ?_⟩, ?_⟩
      · rw [show xo - xk = 0 by omega, Int.zero_mul]
      · rw [if_neg (by omega)]; omega
theorem hitN_one {sh r x y : Int} {t : Nat} (ht : t < 128) (h1 : 0 ≤ sh ∧ sh ≤ 4) (h2 : 0 ≤ r ∧ r ≤ 3) (hI : ∀ k, k < shN sh → (0 ≤ cX sh r x k ∧ cX sh r x k ≤ 7) ∧ 0 ≤ cY sh r y k ∧ cY sh r y k ≤ 7) : hitN sh r x y t = bB (an (fun k => an (fun o => hitB sh r x y t k o) (shN sh)) (shN sh)) := by
  have uk : ∀ k k' o o', k < shN sh → k' < shN sh → o < shN sh → o' < shN sh → hitB sh r x y t k o = true → hitB sh r x y t k' o' = true → k = k' ∧ o = o' := fun k k' o o' hk hk' ho ho' e e' => by
    have ik := hI k hk
    have ik' := hI k' hk'
    rw [hit_iff ik] at e
    rw [hit_iff ik'] at e'
    refine ⟨cXY_eq (x := x) (y := y) h1 h2 hk hk' (by omega), cXY_eq (x := x) (y := y) h1 h2 ho ho' (by omega)⟩
  unfold hitN
  rw [sm_congr (g := fun k => bB (an (fun o => hitB sh r x y t k o) (shN sh))) fun k hk => sm_one fun o o' ho ho' e e' => (uk k k o o' hk hk ho ho' e e').2]
  refine sm_one fun k k' hk hk' e e' => ?_
  obtain ⟨o, ho, e⟩ := an_iff.mp e
  obtain ⟨o', ho', e'⟩ := an_iff.mp e'
  exact (uk k k' o o' hk hk' ho ho' e e').1
/-- a strap more -/
theorem stB_u {s : tRow} {t : Nat} {x y d : Int} : stB (fU s (97 + t) 1) x y d = (stB s x y d || decide ((edI x y d).toNat = 97 + t)) := by
  unfold stB
  by_cases c : (edI x y d).toNat = 97 + t
  · rw [c, fU_s, decide_eq_true rfl, decide_eq_true rfl, Bool.or_true]
  · rw [fU_n c, decide_eq_false c, Bool.or_false]
theorem stN_u {s : tRow} {t : Nat} {x y u v : Int} : stN (fU s (97 + t) 1) x y u v = (stN s x y u v || decide ((edI (min x u) (min y v) (if y = v then 0 else 1)).toNat = 97 + t)) := stB_u
theorem crs_u {s : tRow} {t : Nat} {sh r x y : Int} (hI : ∀ k, k < shN sh → (0 ≤ cX sh r x k ∧ cX sh r x k ≤ 7) ∧ 0 ≤ cY sh r y k ∧ cY sh r y k ≤ 7) : crs (fU s (97 + t) 1) sh r x y = (crs s sh r x y || an (fun k => an (fun o => hitB sh r x y t k o) (shN sh)) (shN sh)) := by
  refine Bool.eq_iff_iff.mpr ?_
  rw [Bool.or_eq_true]
  unfold crs
  constructor
  · intro h
    obtain ⟨a, ha, h⟩ := an_iff.mp h
    obtain ⟨b, hb, h⟩ := an_iff.mp h
    rw [Bool.and_eq_true, stN_u, Bool.or_eq_true] at h
    obtain ⟨hn, hs | hs⟩ := h
    · exact Or.inl (an_iff.mpr ⟨a, ha, an_iff.mpr ⟨b, hb, by rw [hn, hs]; rfl⟩⟩)
    · have hs := of_decide_eq_true hs
      have ia := hI a ha
      have ib := hI b (by omega)
      have wa : (∀ o, hitB sh r x y t a o = true ↔ _) := fun o => hit_iff ia
      have wb : (∀ o, hitB sh r x y t b o = true ↔ _) := fun o => hit_iff ib
      have key : hitB sh r x y t a b = true ∨ hitB sh r x y t b a = true := by
        rw [wa, wb]
        clear wa wb
        unfold edI at hs
        rcases nei_iff.mp hn with ⟨h1, h2⟩ | ⟨h1, h2⟩ | ⟨h1, h2⟩ | ⟨h1, h2⟩
        · rw [if_pos h2.symm, if_pos rfl] at hs
          omega
        · rw [if_pos h2.symm, if_pos rfl] at hs
          omega
        · rw [if_neg (by omega)] at hs
          omega
        · rw [if_neg (by omega)] at hs
          omega
      rcases key with key | key
      · exact Or.inr (an_iff.mpr ⟨a, ha, an_iff.mpr ⟨b, by omega, key⟩⟩)
      · exact Or.inr (an_iff.mpr ⟨b, by omega, an_iff.mpr ⟨a, ha, key⟩⟩)
  · rintro (h | h)
    · obtain ⟨a, ha, h⟩ := an_iff.mp h
      obtain ⟨b, hb, h⟩ := an_iff.mp h
      rw [Bool.and_eq_true] at h
      exact an_iff.mpr ⟨a, ha, an_iff.mpr ⟨b, hb, by rw [stN_u, h.1, h.2]; rfl⟩⟩
    · obtain ⟨k, hk, h⟩ := an_iff.mp h
      obtain ⟨o, ho, h⟩ := an_iff.mp h
      have ik := hI k hk
      have io := hI o ho
      rw [hit_iff ik] at h
      have ne : k ≠ o := fun e => by subst e; omega
      have go : ∀ a b : Nat, a < shN sh → b < a → (a = k ∧ b = o ∨ a = o ∧ b = k) → an (fun a => an (fun b => nei (cX sh r x a) (cY sh r y a) (cX sh r x b) (cY sh r y b) && stN (fU s (97 + t) 1) (cX sh r x a) (cY sh r y a) (cX sh r x b) (cY sh r y b)) a) (shN sh) = true := fun a b ha hb hab => by
        refine an_iff.mpr ⟨a, ha, an_iff.mpr ⟨b, hb, ?_⟩⟩
        rw [Bool.and_eq_true, stN_u, Bool.or_eq_true]
        rcases hab with ⟨rfl, rfl⟩ | ⟨rfl, rfl⟩
        · refine ⟨nei_iff.mpr (by omega), Or.inr (decide_eq_true ?_)⟩
          unfold edI
          by_cases c : cY sh r y a = cY sh r y b
          · rw [if_pos c, if_pos rfl]; omega
          · rw [if_neg c, if_neg (by decide)]; omega
        · refine ⟨nei_iff.mpr (by omega), Or.inr (decide_eq_true ?_)⟩
          unfold edI
          by_cases c : cY sh r y a = cY sh r y b
          · rw [if_pos c, if_pos rfl]; omega
          · rw [if_neg c, if_neg (by decide)]; omega
      rcases Nat.lt_or_ge o k with c | c
      · exact go k o hk c (Or.inl ⟨rfl, rfl⟩)
      · exact go o k ho (by omega) (Or.inr ⟨rfl, rfl⟩)
theorem mf_u {s : tRow} (hD : Dm s) {t : Nat} (ht : t < 128) {sh r x y : Int} (h1 : 0 ≤ sh ∧ sh ≤ 4) (h2 : 0 ≤ r ∧ r ≤ 3) : bB (decide (mf s sh r x y = 0)) = bB (decide (mf (fU s (97 + t) 1) sh r x y = 0)) + (if mf s sh r x y = 0 then hitN sh r x y t else 0) := by
  have s0 : fU s (97 + t) 1 0 = s 0 := fU_n (by omega)
  have s1 : fU s (97 + t) 1 1 = s 1 := fU_n (by omega)
  have iB : ∀ u w, inB (fU s (97 + t) 1) u w = inB s u w := fun u w => by unfold inB; rw [s0, s1]
  unfold mf
  simp only [iB]
  by_cases c1 : an (fun k => !inB s (cX sh r x k) (cY sh r y k)) (shN sh) = true
  · rw [if_pos c1, if_pos c1, if_neg (by decide)]; rfl
  · have hin : ∀ k, k < shN sh → inB s (cX sh r x k) (cY sh r y k) = true := fun k hk => by
      have := an_false.mp (Bool.eq_false_iff.mpr c1) k hk
      cases e : inB s (cX sh r x k) (cY sh r y k) with
      | true => rfl
      | false => rw [e] at this; exact absurd this (by decide)
    have hI : ∀ k, k < shN sh → (0 ≤ cX sh r x k ∧ cX sh r x k ≤ 7) ∧ 0 ≤ cY sh r y k ∧ cY sh r y k ≤ 7 := fun k hk => inB_7 hD (hin k hk)
    have cE : ∀ k, k < shN sh → cI (fU s (97 + t) 1) (cX sh r x k) (cY sh r y k) = cI s (cX sh r x k) (cY sh r y k) := fun k hk => by
      have := hI k hk
      exact fU_n (by omega)
    rw [if_neg c1, if_neg c1, an_congr (q := fun k => decide (cI s (cX sh r x k) (cY sh r y k) = 1)) (p := fun k => decide (cI (fU s (97 + t) 1) (cX sh r x k) (cY sh r y k) = 1)) fun k hk => by rw [cE k hk], an_congr (q := fun k => decide (2 ≤ cI s (cX sh r x k) (cY sh r y k))) (p := fun k => decide (2 ≤ cI (fU s (97 + t) 1) (cX sh r x k) (cY sh r y k))) fun k hk => by rw [cE k hk]]
    by_cases c2 : an (fun k => decide (cI s (cX sh r x k) (cY sh r y k) = 1)) (shN sh) = true
    · rw [if_pos c2, if_pos c2, if_neg (by decide)]; rfl
    · rw [if_neg c2, if_neg c2]
      by_cases c3 : an (fun k => decide (2 ≤ cI s (cX sh r x k) (cY sh r y k))) (shN sh) = true
      · rw [if_pos c3, if_pos c3, if_neg (by decide)]; rfl
      · rw [if_neg c3, if_neg c3, crs_u hI, hitN_one ht h1 h2 hI]
        cases crs s sh r x y with
        | true => rfl
        | false =>
          cases an (fun k => an (fun o => hitB sh r x y t k o) (shN sh)) (shN sh) <;> rfl
/-- what a strap at t takes from a player -/
theorem eff {s : tRow} (hD : Dm s) {t : Nat} (ht : t < 128) (hT : 0 ≤ s 2 ∧ s 2 ≤ 1) : movs s (1 - s 2) - movs (fU s (97 + t) 1) (1 - s 2) = ctE s t := by
  have s0 : fU s (97 + t) 1 0 = s 0 := fU_n (by omega)
  have s1 : fU s (97 + t) 1 1 = s 1 := fU_n (by omega)
  have e : movs s (1 - s 2) = movs (fU s (97 + t) 1) (1 - s 2) + ctE s t := by
    unfold movs
    rw [ctE_at, ← sm_add]
    refine sm_congr fun sh hsh => ?_
    unfold movf
    rw [show ofS (fU s (97 + t) 1) (1 - s 2) (2 + (sh : Int)) = ofS s (1 - s 2) (2 + (sh : Int)) from fU_n (by unfold plI; omega)]
    by_cases c : 0 < ofS s (1 - s 2) (2 + (sh : Int))
    · rw [if_pos c, if_pos c, if_pos (decide_eq_true c)]
      unfold fitc
      rw [← sm_add]
      refine sm_congr fun r hr => ?_
      unfold fitq
      rw [s1, ← sm_add]
      refine sm_congr fun y hy => ?_
      unfold fitr
      rw [s0, ← sm_add]
      exact sm_congr fun x hx => mf_u hD ht (by omega) (by omega)
    · rw [if_neg c, if_neg c, if_neg (fun z => c (of_decide_eq_true z))]
      rfl
  omega
