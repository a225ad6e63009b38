/-! ===== the component's changes: slots, input ===== -/
/-- the slots' rows after one is put down -/
def savK (sl : Nat → Int) (k : Int) (row : Nat → Int) : Nat → Int := va_cpy row sl 0 (k * 417).toNat 417
theorem savK_s {sl row : Nat → Int} {k : Nat} {j : Nat} (hj : j < 417) : savK sl (k : Int) row (417 * k + j) = row j := by
  unfold savK va_cpy
  rw [if_pos (by omega)]
  exact congrArg row (by omega)
theorem savK_n {sl row : Nat → Int} {k q : Nat} (hq : q ≠ k) {j : Nat} (hj : j < 417) : savK sl (k : Int) row (417 * q + j) = sl (417 * q + j) := by
  unfold savK va_cpy
  rw [if_neg (by omega)]
/-- the byte s of a word -/
def bt (z : Int32) (s : Nat) : Int := ((z >>> (iI ((24 : Int) - 8 * s) &&& 31)) &&& iI 255).toInt
/-- five words put behind the first n bytes -/
def apI (inp : Nat → Int) (n : Nat) (w : Nat → Int32) : Nat → Int := fun j => if n ≤ j ∧ j < n + 20 then bt (w ((j - n) / 4)) ((j - n) % 4) else inp j
theorem and_b (y : Int32) : ∃ b : Nat, b < 256 ∧ (y &&& iI 255) = iI (b : Int) ∧ (y &&& iI 255).toInt = (b : Int) ∧ y.toInt8.toInt32 = iI (sgn (b : Int)) := by
  have h1 : (y &&& iI 255).toBitVec.toNat = y.toBitVec.toNat % 256 := by
    have : (y &&& iI 255).toBitVec = y.toBitVec &&& (255#32) := rfl
    rw [this, BitVec.toNat_and]
    exact Nat.and_two_pow_sub_one_eq_mod _ 8
  have h2 : (y &&& iI 255).toInt = ((y.toBitVec.toNat % 256 : Nat) : Int) := by
    show (y &&& iI 255).toBitVec.toInt = _
    rw [BitVec.toInt_eq_toNat_cond, h1, if_pos (by omega)]
  have hb : y.toBitVec.toNat % 256 < 256 := Nat.mod_lt _ (by decide)
  refine ⟨y.toBitVec.toNat % 256, hb, ?_, h2, ?_⟩
  · rw [← h2, iI_self]
  · have e : (y.toInt8.toInt32).toInt = sgn ((y.toBitVec.toNat % 256 : Nat) : Int) := by
      rw [Int8.toInt_toInt32, Int32.toInt_toInt8]
      have : y.toInt = (y.toBitVec.toNat : Int).bmod (2 ^ 32) := by
        show y.toBitVec.toInt = _
        exact BitVec.toInt_eq_toNat_bmod _
      rw [this, Int.bmod_def, Int.bmod_def]
      unfold sgn
      split <;> split <;> split <;> omega
    rw [← e, iI_self]
theorem bt_b {z : Int32} {s : Nat} : 0 ≤ bt z s ∧ bt z s ≤ 255 := by
  obtain ⟨b, h1, -, h2, -⟩ := and_b (z >>> (iI ((24 : Int) - 8 * s) &&& 31))
  unfold bt
  rw [h2]
  omega
section MU3
variable {G : tG} {D N : Nat → Prop} {hs : tHS} {x sv a ia ow dq sa ea hd : Nat} {gs : Nat → Nat} {fs : Nat → Option Nat} {fi : Nat → Int} {ar : Nat → Nat → Int}
theorem a_truncate (X : XC G D N hs.1 x sv a ia ow dq sa ea hd gs fs fi ar) (hF : Fi hs) (md : Md fi ar) {k : Int} (h1 : InR k) :
    CM G D N (t_Ev (t_pg G) t_hd Y_X1_truncateInput 0 ([some (.ref x), some (.int (iI k))], [], hs)) hs x (if isB k 0 (fi 13) = true then .inr k else .inl 15) (if isB k 0 (fi 13) = true then fU fi 13 k else fi) ar := by
  have o := md.o199
  have n13 := md.n13
  rw [b_X1_truncateInput_0, gfI_at (k := 3) (x := iI (fi 13)) X.ob rfl, Option.bind_some, X.kx, Option.bind_some, c_checkRange h1 (by omega) (by omega)]
  cases c : isB k 0 (fi 13) with
  | false =>
    rw [if_neg (by decide), if_neg (by decide), if_neg (by decide), bndV_thr]
    exact CM.thr X hF o (Mx.refl hF) (Nat.zero_le _) (Nat.zero_le _) rfl
  | true =>
    have b := isB_iff.mp c
    rw [if_pos rfl, if_pos rfl, if_pos rfl, bV_rV]
    obtain ⟨h', e, X', m⟩ := c_inLen (c := k) X hF o b.2
    refine ⟨(h', hs.2), ?_, X'.xo, m.le (by decide) (by decide)⟩
    show _ = rI k _
    rw [e, Option.bind_some, gfI_at (k := 3) (x := iI (fU fi 13 k 13)) X'.ob rfl, Option.bind_some, fU_s]
    rfl
/-- a byte put behind the input -/
theorem c_byte {h : tHS} {z : Int32} {s : Nat} (X : XC G D N h.1 x sv a ia ow dq sa ea hd gs fs fi ar) (hF : Fi h) (ho : (fi 14).toNat ≤ 199) (n13 : 0 ≤ fi 13 ∧ fi 13 ≤ 599) : ∃ h', ((gfR h.1 (.ref x) 0 2).bind fun o_1 => (gfI h.1 (.ref x) 0 3).bind fun x_2 => (stI h.1 (va_rf o_1) x_2 1 2 ((z >>> (iI ((24 : Int) - 8 * s) &&& 31)).toInt8.toInt32)).bind fun h_3 => (gfI h_3 (.ref x) 0 3).bind fun x_4 => pfV h_3 (.ref x) 0 3 (.int (x_4 + (iI 1)))) = some h' ∧ XC G D N h' x sv a ia ow dq sa ea hd gs fs (fU fi 13 (fi 13 + 1)) (aS ar 8 (fU (ar 8) (fi 13).toNat (bt z s))) ∧ Mx N 0 0 h (h', h.2) ∧ Kp tgY h.1 h' := by
  obtain ⟨q, i1, i2⟩ := X.ip
  obtain ⟨n1, n2, n3, n4, n5, n6, n7, n8, n9, n10⟩ := X.nq
  obtain ⟨b, b1, b2, b3, b4⟩ := and_b (z >>> (iI ((24 : Int) - 8 * s) &&& 31))
  have eb : bt z s = (b : Int) := b3
  have nar : t_nar 2 (iI (sgn (b : Int))) = iI (sgn (b : Int)) := by
    have : ∀ k : Nat, k < 256 → t_nar 2 (iI (sgn (k : Int))) = iI (sgn (k : Int)) := by decide +kernel
    exact this b b1
  obtain ⟨q', hq'⟩ : ∃ q', q' = upd q (fi 13).toNat (iI (sgn (b : Int))) := ⟨_, rfl⟩
  have k1 : Kp tgY h.1 (t_up h.1 ia (true, 2, .inr (600, .inl q'))) := Kp.up i1 rfl
  have ob1 : t_up h.1 ia (true, 2, .inr (600, .inl q')) x = _ := (t_up_n n1).trans X.ob
  obtain ⟨E1, hE1⟩ : ∃ E1 : tEnt, E1 = (true, 0, .inl [.ref sv, .ref a, .ref ia, .int (iI (fi 13 + 1)), .int (iI (fi 15)), .int (iI (fi 16)), .ref ow, .ref dq, .ref sa]) := ⟨_, rfl⟩
  have ky := k1.trans (Kp.up (T := tgY) (e := E1) ob1 rfl)
  have A8 : aS ar 8 (fU (ar 8) (fi 13).toNat (bt z s)) 8 = fU (ar 8) (fi 13).toNat (bt z s) := aS_s
  refine ⟨t_up (t_up h.1 ia (true, 2, .inr (600, .inl q'))) x E1, ?_, ?_, ?_, ky⟩
  · rw [gfR_at (k := 2) (q := ia) X.ob rfl, Option.bind_some, gfI_at (k := 3) (x := iI (fi 13)) X.ob rfl, Option.bind_some, b4, va_rf_some, stI_at i1 (Or.inr rfl) n13.1 (by omega) (by decide), Option.bind_some, nar, ← hq', gfI_at (k := 3) (x := iI (fi 13)) ob1 rfl, Option.bind_some, pf_at ob1 (Nat.le_of_ble_eq_true rfl), iI_add, hE1]
    rfl
  · refine ⟨t_up_s.trans (by rw [hE1]; rfl), X.sh.kp ky.yg, X.gm.kp ky.yg, ⟨q', (t_up_n n1.symm).trans t_up_s, fun j hj => ?_⟩, X.ou.kpY ky ho, X.dk.cg ((t_up_n n2.symm).trans (t_up_n n5.symm)) ((t_up_n n3.symm).trans (t_up_n n6.symm)), fun k hk => (X.kg k hk).kp ky.yg, ((t_up_n n4.symm).trans (t_up_n n7.symm)).trans X.sg, fun k hk => ⟨fun e => ?_, (X.sl k hk).2⟩, X.nx⟩
    · rw [fU_s] at hj
      rw [A8, hq']
      by_cases c : j = (fi 13).toNat
      · rw [c, upd_s, fU_s, eb]
      · rw [upd_n c, fU_n c]
        exact i2 j (by omega)
    · obtain ⟨g, g1, g2⟩ := (X.sl k hk).1 e
      exact ⟨g, g1, g2.kp ky.yg⟩
  · have m1 : Mx N 0 0 h (t_up h.1 ia (true, 2, .inr (600, .inl q')), h.2) := Mx.up hF i1 X.nx.2.1
    exact m1.upM ob1 X.nx.1
/-- the first j bytes of five words put behind the first n -/
def apJ (inp : Nat → Int) (n : Nat) (w : Nat → Int32) (k : Nat) : Nat → Int := fun j => if n ≤ j ∧ j < n + k then bt (w ((j - n) / 4)) ((j - n) % 4) else inp j
theorem apJ_s {inp : Nat → Int} {n k : Nat} {w : Nat → Int32} : fU (apJ inp n w k) (n + k) (bt (w (k / 4)) (k % 4)) = apJ inp n w (k + 1) := by
  funext j
  unfold fU apJ
  by_cases c : j = n + k
  · rw [if_pos c, if_pos (by omega), show j - n = k by omega]
  · rw [if_neg c]
    by_cases d : n ≤ j ∧ j < n + k
    · rw [if_pos d, if_pos (by omega)]
    · rw [if_neg d, if_neg (by omega)]
theorem apJ_0 {inp : Nat → Int} {n : Nat} {w : Nat → Int32} : apJ inp n w 0 = inp := by
  funext j
  unfold apJ
  rw [if_neg (by omega)]
theorem aS_aS {ar : Nat → Nat → Int} {k : Nat} {F F' : Nat → Int} : aS (aS ar k F) k F' = aS ar k F' := by
  funext j
  unfold aS
  by_cases c : j = k <;> simp [c]
theorem aS_id {ar : Nat → Nat → Int} {k : Nat} : aS ar k (ar k) = ar := by
  funext j
  unfold aS
  by_cases c : j = k
  · rw [if_pos c, c]
  · rw [if_neg c]
theorem bind5 {α β γ δ ε ζ : Type} {a : Option α} {b : Option β} {c : α → β → Option γ} {d : γ → Option δ} {e : γ → δ → Option ε} {r : ε} {K : ε → Option ζ} (h : (a.bind fun o => b.bind fun x => (c o x).bind fun y => (d y).bind fun z => e y z) = some r) : (a.bind fun o => b.bind fun x => (c o x).bind fun y => (d y).bind fun z => (e y z).bind K) = K r := by
  have := congrArg (fun o => o.bind K) h
  simpa only [Option.bind_assoc, Option.bind_some] using this
/-- one word -/
theorem c_word {h0 : tHS} {wa q : Nat} {w : Nat → Int32} {v1 : Option Value} (hq : q < 5) (hwa : h0.1 wa = some (true, 0, .inr (5, .inl w))) (ho : (fi 14).toNat ≤ 199) (n13 : 0 ≤ fi 13 ∧ fi 13 ≤ 580) (X0 : XC G D N h0.1 x sv a ia ow dq sa ea hd gs fs (fU fi 13 (fi 13 + 4 * (q : Int))) (aS ar 8 (apJ (ar 8) (fi 13).toNat w (4 * q)))) (hF : Fi h0) :
    ∃ h' u6, t_Ev (t_pg G) t_hd Y_X1_appendWords 24 ([some (.ref x), v1, some (.ref wa), some (.int (iI 5)), some (.int (iI (q : Int))), (some (.int (w q))), some (.int (iI 24))], [], h0) = t_Ev (t_pg G) t_hd Y_X1_appendWords 8 ([some (.ref x), v1, some (.ref wa), some (.int (iI 5)), some (.int (iI ((q + 1 : Nat) : Int))), (some (.int (w q))), u6], [], h') ∧ h'.1 wa = some (true, 0, .inr (5, .inl w)) ∧ XC G D N h'.1 x sv a ia ow dq sa ea hd gs fs (fU fi 13 (fi 13 + 4 * ((q + 1 : Nat) : Int))) (aS ar 8 (apJ (ar 8) (fi 13).toNat w (4 * (q + 1)))) ∧ Mx N 0 0 h0 h' := by
  obtain ⟨h', ⟨w1, X1, m1⟩, lo⟩ := lp_ik (N := 4) (σ := tHS) (I := fun s c => c.1 wa = some (true, 0, .inr (5, .inl w)) ∧ XC G D N c.1 x sv a ia ow dq sa ea hd gs fs (fU fi 13 (fi 13 + (4 * q + s : Nat))) (aS ar 8 (apJ (ar 8) (fi 13).toNat w (4 * q + s))) ∧ Mx N 0 0 h0 c) (F := fun s c => t_Ev (t_pg G) t_hd Y_X1_appendWords 24 ([some (.ref x), v1, some (.ref wa), some (.int (iI 5)), some (.int (iI (q : Int))), (some (.int (w q))), some (.int (iI (24 - 8 * (s : Int))))], [], c)) (fun s hs c hc => by
    obtain ⟨w1, X1, m1⟩ := hc
    obtain ⟨h2, e2, X2, m2, k2⟩ := c_byte (z := w q) (s := s) X1 m1.2.2.2 (by rw [fU_n (by decide)]; exact ho) (by rw [fU_s]; omega)
    refine ⟨(h2, c.2), ⟨k2 _ _ w1 rfl, ?_, m1.trans m2⟩, ?_⟩
    · rw [fU_s, fU_fU, aS_s, aS_aS, show (fi 13 + ((4 * q + s : Nat) : Int)).toNat = (fi 13).toNat + (4 * q + s) by omega] at X2
      have e := apJ_s (inp := ar 8) (n := (fi 13).toNat) (k := 4 * q + s) (w := w)
      rw [show (4 * q + s) / 4 = q by omega, show (4 * q + s) % 4 = s by omega] at e
      rw [e, show fi 13 + ((4 * q + s : Nat) : Int) + 1 = fi 13 + ((4 * q + (s + 1) : Nat) : Int) by omega] at X2
      exact X2
    · try dsimp only
      rw [b_X1_appendWords_24]
      simp (disch := omega) only [iI_lt]
      rw [if_neg (by omega)]
      refine (bind5 e2).trans ?_
      rw [iI_add, show (24 : Int) - 8 * (s : Int) + -8 = 24 - 8 * ((s + 1 : Nat) : Int) by omega]) h0 ⟨hwa, X0, Mx.refl hF⟩
  refine ⟨h', some (.int (iI (24 - 8 * ((4 : Nat) : Int)))), Eq.trans lo ?_, w1, ?_, m1⟩
  · try dsimp only
    rw [b_X1_appendWords_24, if_pos (by decide), iI_add]
    rfl
  · rw [show (4 * q + 4 : Nat) = 4 * (q + 1) by omega] at X1
    rw [show 4 * ((q + 1 : Nat) : Int) = ((4 * (q + 1) : Nat) : Int) by omega]
    exact X1
theorem c_bytes {h0 : tHS} {wa : Nat} {w : Nat → Int32} (hwa : h0.1 wa = some (true, 0, .inr (5, .inl w))) (X0 : XC G D N h0.1 x sv a ia ow dq sa ea hd gs fs fi ar) (hF : Fi h0) (ho : (fi 14).toNat ≤ 199) (n13 : 0 ≤ fi 13 ∧ fi 13 ≤ 580) {v1 : Option Value} :
    ∃ h', t_Ev (t_pg G) t_hd Y_X1_appendWords 8 ([some (.ref x), v1, some (.ref wa), some (.int (iI 5)), some (.int (iI 0)), none, none], [], h0) = rI (fi 13 + 20) h' ∧ XC G D N h'.1 x sv a ia ow dq sa ea hd gs fs (fU fi 13 (fi 13 + 20)) (aS ar 8 (apI (ar 8) (fi 13).toNat w)) ∧ Mx N 0 0 h0 h' := by
  obtain ⟨⟨h', u5, u6⟩, ⟨w1, X1, m1⟩, lo⟩ := lp_ik (N := 5) (σ := tHS × Option Value × Option Value) (I := fun q c => c.1.1 wa = some (true, 0, .inr (5, .inl w)) ∧ XC G D N c.1.1 x sv a ia ow dq sa ea hd gs fs (fU fi 13 (fi 13 + 4 * (q : Int))) (aS ar 8 (apJ (ar 8) (fi 13).toNat w (4 * q))) ∧ Mx N 0 0 h0 c.1) (F := fun q c => t_Ev (t_pg G) t_hd Y_X1_appendWords 8 ([some (.ref x), v1, some (.ref wa), some (.int (iI 5)), some (.int (iI (q : Int))), c.2.1, c.2.2], [], c.1)) (fun q hq c hc => by
    obtain ⟨w1, X1, m1⟩ := hc
    obtain ⟨h2, u6, e2, w2, X2, m2⟩ := c_word (G := G) (v1 := v1) hq w1 ho n13 X1 m1.2.2.2
    refine ⟨(h2, some (.int (w q)), u6), ⟨w2, X2, m1.trans m2⟩, ?_⟩
    try dsimp only
    rw [b_X1_appendWords_8]
    simp (disch := omega) only [iI_lt]
    rw [if_pos (by omega), ldI_at w1 (Or.inl rfl) (by omega) (by omega) (by decide), Option.bind_some, Int.toNat_natCast]
    exact e2) (h0, none, none) ⟨hwa, by
      rw [show fi 13 + 4 * ((0 : Nat) : Int) = fi 13 by omega, hM_fU rfl, Nat.mul_zero, apJ_0, aS_id]
      exact X0, Mx.refl hF⟩
  refine ⟨h', Eq.trans lo ?_, X1, m1⟩
  try dsimp only
  rw [b_X1_appendWords_8, if_neg (by decide), gfI_at (k := 3) (x := iI (fU fi 13 (fi 13 + 4 * ((5 : Nat) : Int)) 13)) X1.ob rfl, Option.bind_some, fU_s]
  rfl
/-- five words -/
def w5 (x1 x2 x3 x4 x5 : Int32) (k : Nat) : Int32 := if k = 0 then x1 else if k = 1 then x2 else if k = 2 then x3 else if k = 3 then x4 else x5
theorem a_append (X : XC G D N hs.1 x sv a ia ow dq sa ea hd gs fs fi ar) (hF : Fi hs) (md : Md fi ar) {x1 x2 x3 x4 x5 : Int32} :
    CM G D N (t_Ev (t_pg G) t_hd Y_X1_append 0 ([some (.ref x), (some (.int x1)), (some (.int x2)), (some (.int x3)), (some (.int x4)), (some (.int x5))], [], hs)) hs x (.inr (if 600 < fi 13 + 20 then -1 else fi 13 + 20)) (if 600 < fi 13 + 20 then fi else fU fi 13 (fi 13 + 20)) (if 600 < fi 13 + 20 then ar else aS ar 8 (apI (ar 8) (fi 13).toNat (w5 x1 x2 x3 x4 x5))) := by
  have o := md.o199
  have n13 := md.n13
  rw [b_X1_append_0, gfI_at (k := 3) (x := iI (fi 13)) X.ob rfl, Option.bind_some, iI_add]
  simp (disch := omega) only [iI_lt]
  by_cases c : 600 < fi 13 + 20
  · rw [if_pos c, if_pos c, if_pos c, if_pos c]
    exact ⟨hs, rfl, X.xo, Mx.refl hF⟩
  · rw [if_neg c, if_neg c, if_neg c, if_neg c]
    obtain ⟨h1, q1⟩ : ∃ h1, h1 = t_al hs (t_arr0 0 5) 5 := ⟨_, rfl⟩
    have m1 : Ex 1 5 hs h1 := by rw [q1]; exact Ex.al hF
    have z1 : h1.1 hs.2.1 = some (true, 0, .inr (5, .inl (fun _ => 0))) := by rw [q1]; exact t_up_s
    rw [← q1]
    rw [stI_at (x := x1) z1 (Or.inl rfl) (by decide) (by decide) (by decide), Option.bind_some, stI_at (x := x2) t_up_s (Or.inl rfl) (by decide) (by decide) (by decide), Option.bind_some, t_up_up, stI_at (x := x3) t_up_s (Or.inl rfl) (by decide) (by decide) (by decide), Option.bind_some, t_up_up, stI_at (x := x4) t_up_s (Or.inl rfl) (by decide) (by decide) (by decide), Option.bind_some, t_up_up, stI_at (x := x5) t_up_s (Or.inl rfl) (by decide) (by decide) (by decide), Option.bind_some, t_up_up]
    have ew : upd (upd (upd (upd (upd (fun _ => (0 : Int32)) (Int.toNat 0) (t_nar 0 x1)) (Int.toNat 1) (t_nar 0 x2)) (Int.toNat 2) (t_nar 0 x3)) (Int.toNat 3) (t_nar 0 x4)) (Int.toNat 4) (t_nar 0 x5) = fun k => if k < 5 then w5 x1 x2 x3 x4 x5 k else 0 := by
      funext k
      unfold upd w5 t_nar
      rcases Nat.lt_or_ge k 5 with h | h
      · rcases (show k = 0 ∨ k = 1 ∨ k = 2 ∨ k = 3 ∨ k = 4 by omega) with rfl | rfl | rfl | rfl | rfl <;> rfl
      · have e0 : ¬ k < 5 := by omega
        have : k ≠ Int.toNat 4 ∧ k ≠ Int.toNat 3 ∧ k ≠ Int.toNat 2 ∧ k ≠ Int.toNat 1 ∧ k ≠ Int.toNat 0 := ⟨by show k ≠ 4; omega, by show k ≠ 3; omega, by show k ≠ 2; omega, by show k ≠ 1; omega, by show k ≠ 0; omega⟩
        rw [if_neg this.1, if_neg this.2.1, if_neg this.2.2.1, if_neg this.2.2.2.1, if_neg this.2.2.2.2, if_neg e0]
    rw [ew]
    obtain ⟨h2, q2⟩ : ∃ h2 : tHS, h2 = (t_up h1.1 hs.2.1 (true, 0, .inr (5, .inl (fun k => if k < 5 then w5 x1 x2 x3 x4 x5 k else 0))), h1.2) := ⟨_, rfl⟩
    have m2 : Ex 1 5 hs h2 := by rw [q2]; exact Ex.up m1 z1 (Nat.le_refl _)
    have z2 : h2.1 hs.2.1 = some (true, 0, .inr (5, .inl (fun k => if k < 5 then w5 x1 x2 x3 x4 x5 k else 0))) := by rw [q2]; exact t_up_s
    have e2 : t_up h1.1 hs.2.1 (true, 0, .inr (5, .inl (fun k => if k < 5 then w5 x1 x2 x3 x4 x5 k else 0))) = h2.1 := by rw [q2]
    rw [e2, show (h2.1, h1.2) = h2 by rw [q2]]
    have X2 := X.ex hF m2 o
    obtain ⟨h3, e3, X3, m3⟩ := c_bytes (G := G) (v1 := some (.ref hs.2.1)) z2 X2 m2.2.2.2 o (by omega)
    have ea : apI (ar 8) (fi 13).toNat (fun k => if k < 5 then w5 x1 x2 x3 x4 x5 k else 0) = apI (ar 8) (fi 13).toNat (w5 x1 x2 x3 x4 x5) := by
      funext j
      unfold apI
      by_cases d : (fi 13).toNat ≤ j ∧ j < (fi 13).toNat + 20
      · rw [if_pos d, if_pos d]
        try dsimp only
        rw [if_pos (by omega)]
      · rw [if_neg d, if_neg d]
    rw [ea] at X3
    refine ⟨h3, ?_, X3.xo, (m2.toN.trans m3).le (by decide) (by decide)⟩
    show _ = rI (fi 13 + 20) _
    rw [X2.kx, Option.bind_some, b_X1_appendWords_0, aLen_at z2, Option.bind_some, show Int32.ofNat 5 = iI 5 from rfl, e3, bI_rI]
    rfl
end MU3
