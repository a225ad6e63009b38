/-! ===== the component's game: cells, rows, straps counted ===== -/
/-- cells with a content -/
def cwR (s : tRow) (v y : Int) : Int := sm (fun x => bB (decide (cI s x y = v))) (s 0).toNat
def cwN (s : tRow) (v : Int) : Int := sm (fun y => cwR s v y) (s 1).toNat
theorem cwN_0 {s : tRow} : cwN s 0 = emA s := rfl
/-- rows without an empty cell -/
def crN (s : tRow) : Int := sm (fun y => bB (decide (emi s y = 0))) (s 1).toNat
/-- straps -/
def stC (s : tRow) : Int := sm (fun k => bB (decide (s (97 + k) = 1))) 128
theorem bB_if {p : Prop} [Decidable p] {α : Type} {f : Int → α} {q : Int} : (if p then f (q + 1) else f (q + 0)) = f (q + bB (decide p)) := by
  by_cases h : p
  · rw [if_pos h, decide_eq_true h]; rfl
  · rw [if_neg h, decide_eq_false h]; rfl
section GC
variable {G : tG} {D M : Nat → Prop} {hs : tHS} {a np : Nat} {s : tRow}
theorem c_cw15 (H : GR G D M hs.1 a s np) (hD : Dm s) {w v : Int} (hw : ∀ t : Int, 0 ≤ t → t ≤ 1000000 → (iI (enc t) = iI w) = (t = v)) (hB : RB s) {y q : Int} (h1 : 0 ≤ y ∧ y ≤ 7) : t_Ev (t_pg G) t_hd Y_X3_cellsWith 15 ([some (.ref a), some (.int (iI w)), some (.int (iI q)), some (.int (iI y)), some (.int (iI 0))], [], hs) = t_Ev (t_pg G) t_hd Y_X3_cellsWith 4 ([some (.ref a), some (.int (iI w)), some (.int (iI (q + cwR s v y))), some (.int (iI (y + 1))), some (.int (iI (s 0)))], [], hs) := by
  have hd := hD.1
  have hn := tn_of hd.1
  have lo := lp_up (N := (s 0).toNat) (F := fun k => t_Ev (t_pg G) t_hd Y_X3_cellsWith 15 ([some (.ref a), some (.int (iI w)), some (.int (iI (q + sm (fun x => bB (decide (cI s x y = v))) k))), some (.int (iI y)), some (.int (iI (k : Int)))], [], hs)) fun k hk => by
    have hc := hB.c k y
    rw [b_X3_cellsWith_15, H.i1, Option.bind_some]
    simp (disch := omega) only [iI_lt]
    rw [if_pos (by omega), H.k, Option.bind_some, c_cell H (by omega) (by omega) (by omega) (by omega), bI_rI]
    simp only [hw _ hc.1 hc.2, iI_add, sm]
    rw [← Int.add_assoc]
    exact bB_if (f := fun z => t_Ev (t_pg G) t_hd Y_X3_cellsWith 15 ([some (.ref a), some (.int (iI w)), some (.int (iI z)), some (.int (iI y)), some (.int (iI (((k + 1 : Nat)) : Int)))], [], hs))
  dsimp only [sm] at lo
  rw [Int.add_zero] at lo
  refine Eq.trans lo ?_
  rw [b_X3_cellsWith_15, H.i1, Option.bind_some]
  simp (disch := omega) only [iI_lt]
  rw [if_neg (by omega), hn, iI_add]
  rfl
theorem c_cellsWith (H : GR G D M hs.1 a s np) (hD : Dm s) {w v : Int} (hw : ∀ t : Int, 0 ≤ t → t ≤ 1000000 → (iI (enc t) = iI w) = (t = v)) (hB : RB s) : t_Ev (t_pg G) t_hd Y_X3_cellsWith 0 ([some (.ref a), some (.int (iI w)), none, none, none], [], hs) = rI (cwN s v) hs := by
  have hd := hD.2
  have hn := tn_of hd.1
  have lo := lp_up (N := (s 1).toNat) (F := fun k => t_Ev (t_pg G) t_hd Y_X3_cellsWith 4 ([some (.ref a), some (.int (iI w)), some (.int (iI (sm (fun y => cwR s v y) k))), some (.int (iI (k : Int))), (if k = 0 then none else some (.int (iI (s 0))))], [], hs)) fun k hk => by
    rw [b_X3_cellsWith_4, H.i2, Option.bind_some]
    simp (disch := omega) only [iI_lt]
    rw [if_pos (by omega), c_cw15 H hD hw hB (by omega), if_neg (Nat.succ_ne_zero k)]
    rfl
  rw [b_X3_cellsWith_0]
  refine Eq.trans lo ?_
  try dsimp only
  rw [b_X3_cellsWith_4, H.i2, Option.bind_some]
  simp (disch := omega) only [iI_lt]
  rw [if_neg (by omega)]
  rfl
theorem enc_m1 {t : Int} (h0 : 0 ≤ t) (h1 : t ≤ 1000000) : (iI (enc t) = iI (-1)) = (t = 0) := by
  have b := enc_b h0 h1
  rw [iI_inj (by omega) (by omega) (by decide) (by decide)]
  exact enc_e h0
theorem c_completedRows (H : GR G D M hs.1 a s np) (hD : Dm s) (hB : RB s) : t_Ev (t_pg G) t_hd Y_X3_completedRows 0 ([some (.ref a), none, none], [], hs) = rI (crN s) hs := by
  have hd := hD.2
  have hn := tn_of hd.1
  have lo := lp_up (N := (s 1).toNat) (F := fun k => t_Ev (t_pg G) t_hd Y_X3_completedRows 4 ([some (.ref a), some (.int (iI (sm (fun y => bB (decide (emi s y = 0))) k))), some (.int (iI (k : Int)))], [], hs)) fun k hk => by
    have hb := emi_b hD (y := k)
    rw [b_X3_completedRows_4, H.i2, Option.bind_some]
    simp (disch := omega) only [iI_lt]
    rw [if_pos (by omega), H.k, Option.bind_some, c_emptyCellsOf H hD hB (by omega) (by omega), bI_rI]
    simp (disch := omega) only [iI_inj, iI_add, sm]
    exact bB_if (f := fun z => t_Ev (t_pg G) t_hd Y_X3_completedRows 4 ([some (.ref a), some (.int (iI z)), some (.int (iI (((k + 1 : Nat)) : Int)))], [], hs))
  rw [b_X3_completedRows_0]
  refine Eq.trans lo ?_
  try dsimp only
  rw [b_X3_completedRows_4, H.i2, Option.bind_some]
  simp (disch := omega) only [iI_lt]
  rw [if_neg (by omega)]
  rfl
theorem c_straps (H : GR G D M hs.1 a s np) : t_Ev (t_pg G) t_hd Y_X3_straps 0 ([some (.ref a), none, none, none, none, none], [], hs) = rI (stC s) hs := by
  obtain ⟨sa, fs, e1, e2, e3⟩ := H.st
  obtain ⟨⟨u⟩, -, e⟩ := lp_ik (N := 128) (σ := Unit × Option Value) (I := fun _ _ => True) (F := fun k c => t_Ev (t_pg G) t_hd Y_X3_straps 13 ([some (.ref a), some (.int (iI (sm (fun k => bB (decide (s (97 + k) = 1))) k))), some (.ref sa), some (.int (iI 128)), some (.int (iI (k : Int))), c.2], [], hs)) (fun k hk c _ => by
    refine ⟨((), some (.int (iI (bB (decide (s (97 + k) = 1)))))), trivial, ?_⟩
    try dsimp only
    rw [b_X3_straps_13]
    simp (disch := omega) only [iI_lt]
    rw [if_pos (by omega), ldI_at e2 (by decide) (by omega) (by omega) (by decide), Option.bind_some, Int.toNat_natCast, e3 k hk]
    simp only [bB_0, iI_add, sm]
    cases decide (s (97 + k) = 1) <;> rfl) ((), none) trivial
  rw [b_X3_straps_0, e1, Option.bind_some, va_rf_some, aLen_at e2, Option.bind_some]
  refine Eq.trans e ?_
  try dsimp only
  rw [b_X3_straps_13]
  rfl
end GC
