/-! ===== texts played and loaded, by the model ===== -/
section MPL
variable {G : tG} {m : Nat} {fi : Nat → Int} {ar : Nat → Nat → Int} {g : tAH} {z : Nat × Nat} {kc : Nat → Int}
theorem Md.ply {r : (Int × Nat) ⊕ (tRow × Int)} (md : Md fi ar) (w : ∀ a, r = .inr a → Wf a.1) : Md (plyF r fi) (plyA r fi ar) := by
  cases r with
  | inl e => exact ⟨md.w, md.b2, md.b3, md.c6, ⟨Int.le_refl 0, show (0 : Int) ≤ 600 by decide⟩, md.ib, md.kw, md.sw, md.f5, md.o14, md.o9⟩
  | inr a =>
    have M := md.mv (w a rfl)
    exact ⟨M.w, M.b2, M.b3, M.c6, ⟨Int.le_refl 0, show (0 : Int) ≤ 600 by decide⟩, M.ib, M.kw, M.sw, M.f5, M.o14, M.o9⟩
theorem MM.ply {r : (Int × Nat) ⊕ (tRow × Int)} {E : Option tRS} {v : Int} {fi' : Nat → Int} {ar' : Nat → Nat → Int} (md : Md fi ar) (e : E = rI v (hM m fi' ar' g, z)) (p : PlyR r fi ar fi' ar') : MM m g z kc E (.inr v) (plyF r fi) (plyA r fi ar) := by
  cases r with
  | inl x =>
    obtain ⟨s, h7, h13, h15, h16, h0, b0⟩ := p
    have M : Md (plyF (.inl x) fi) (plyA (.inl x) fi ar) := md.ply fun a h => nomatch h
    have e2 := s.2 2 (by decide)
    have e3 := s.2 3 (by decide)
    have e5 := s.2 5 (by decide)
    have e8 := s.2 8 (by decide)
    have e9 := s.2 9 (by decide)
    have ag : AG (plyF (.inl x) fi) (plyA (.inl x) fi ar) fi' ar' := ⟨s.1 6 (by decide), h13, s.1 14 (by decide), h15, h16, h0, fun j _ => by rw [e2]; rfl, fun j _ => by rw [e3]; rfl, fun j _ => by rw [e5]; rfl, fun j _ => by rw [e8]; rfl, fun j _ => by rw [e9]; rfl⟩
    exact ⟨fi', ar', v, e, ⟨h7, rfl⟩, ag, M.cg ag b0 (by rw [e2]; exact md.b2) (by rw [e3]; exact md.b3) (by rw [e8]; exact md.ib)⟩
  | inr x =>
    obtain ⟨s, h7, h13, h15, h16, h6, h0, w, h2⟩ := p
    have M : Md (plyF (.inr x) fi) (plyA (.inr x) fi ar) := md.ply fun a h => by cases h; exact w
    have e3 := s.2 3 (by decide)
    have e5 := s.2 5 (by decide)
    have e8 := s.2 8 (by decide)
    have e9 := s.2 9 (by decide)
    have ag : AG (plyF (.inr x) fi) (plyA (.inr x) fi ar) fi' ar' := ⟨h6, h13, s.1 14 (by decide), h15, h16, fun j _ => by rw [h0]; rfl, fun j _ => by rw [h2]; rfl, fun j _ => by rw [e3]; rfl, fun j _ => by rw [e5]; rfl, fun j _ => by rw [e8]; rfl, fun j _ => by rw [e9]; rfl⟩
    exact ⟨fi', ar', v, e, ⟨h7, rfl⟩, ag, M.cg ag (by rw [h0]; exact w.rb) (by rw [h2]; exact remK_rb md.b2 md.w.rb) (by rw [e3]; exact md.b3) (by rw [e8]; exact md.ib)⟩
theorem m_play {D : Nat → Prop} (W : Wds G m D g) (md : Md fi ar) {n : Nat} (h13 : fi 13 = n) : MM m g z kc (t_Ev (t_pg G) t_hd Y_X5_play 0 ([some (.ref m)], [], (hM m fi ar g, z))) (.inr (retS (playS (ar 8) n (ar 0)))) (plyF (playS (ar 8) n (ar 0)) fi) (plyA (playS (ar 8) n (ar 0)) fi ar) := by
  have n13 := md.n13
  obtain ⟨f, a, e, p⟩ := e_play (G := G) (m := m) (fi := fi) (ar := ar) (g := g) (z := z) W h13 (by omega) md.ib md.w md.c6
  exact MM.ply md e p
theorem m_load {D : Nat → Prop} (W : Wds G m D g) (md : Md fi ar) {n : Nat} (h13 : fi 13 = n) : MM m g z kc (t_Ev (t_pg G) t_hd Y_X5_load 0 ([some (.ref m), none], [], (hM m fi ar g, z))) (.inr (retL (loadS (ar 8) n (empS (ar 0))))) (plyF (loadS (ar 8) n (empS (ar 0))) fi) (plyA (loadS (ar 8) n (empS (ar 0))) fi ar) := by
  have n13 := md.n13
  obtain ⟨f, a, e, p⟩ := e_load (G := G) (m := m) (fi := fi) (ar := ar) (g := g) (z := z) W h13 (by omega) md.ib md.w.rb md.c6
  exact MM.ply md e p
end MPL
