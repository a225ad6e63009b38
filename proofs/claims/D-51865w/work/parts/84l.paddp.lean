/-! ===== the component: a player put to the game ===== -/
section AP
variable {G : tG} {D M : Nat → Prop} {h : tAH} {a np : Nat} {s s' : tRow}
/-- the row's numbers of players that aren't there yet may be others -/
theorem GR.cgN (hnp : np ≤ 1) (H : GR G D M h a s np) (h4 : s 4 ≤ 32) (hs : ∀ j, j < 5 + np * 14 ∨ 33 ≤ j → s' j = s j) : GR G D M h a s' np := by
  obtain ⟨sv, ca, sa, pa, qa, fc, fs, fp, fq, pl, su, ⟨m1, e1⟩, e2, ⟨m3, e3, e3'⟩, ⟨m4, e4, e4'⟩, e5, e6, e7, m8, e8, e8'⟩ := H
  refine ⟨sv, ca, sa, pa, qa, fc, fs, fp, fq, pl, su, ⟨m1, ?_⟩, e2, ⟨m3, e3, fun j hj => ?_⟩, ⟨m4, e4, fun j hj => ?_⟩, e5, fun p hp => ⟨(e6 p hp).1, (e6 p hp).2.cg fun w w0 w1 => ?_⟩, e7, m8, e8, fun k hk => ?_⟩
  · rw [hs 0 (by omega), hs 1 (by omega), hs 4 (by omega), hs 2 (by omega), hs 3 (by omega)]; exact e1
  · rw [hs _ (by omega)]; exact e3' j hj
  · rw [hs _ (by omega)]; exact e4' j hj
  · exact hs _ (by unfold plI; omega)
  · rw [hs 4 (by omega)] at hk
    obtain ⟨b, f1, f2⟩ := e8' k hk
    exact ⟨b, f1, f2.cg fun i hi => hs _ (by unfold pcI; omega)⟩
/-- a game stands for every row that is the same below 417 -/
theorem GR.cgR (hnp : np ≤ 2) (H : GR G D M h a s np) (h4 : s 4 ≤ 32) (hs : ∀ j, j < 417 → s' j = s j) : GR G D M h a s' np := by
  obtain ⟨sv, ca, sa, pa, qa, fc, fs, fp, fq, pl, su, ⟨m1, e1⟩, e2, ⟨m3, e3, e3'⟩, ⟨m4, e4, e4'⟩, e5, e6, e7, m8, e8, e8'⟩ := H
  refine ⟨sv, ca, sa, pa, qa, fc, fs, fp, fq, pl, su, ⟨m1, ?_⟩, e2, ⟨m3, e3, fun j hj => ?_⟩, ⟨m4, e4, fun j hj => ?_⟩, e5, fun p hp => ⟨(e6 p hp).1, (e6 p hp).2.cg fun w w0 w1 => ?_⟩, e7, m8, e8, fun k hk => ?_⟩
  · rw [hs 0 (by decide), hs 1 (by decide), hs 4 (by decide), hs 2 (by decide), hs 3 (by decide)]; exact e1
  · rw [hs _ (by omega)]; exact e3' j hj
  · rw [hs _ (by omega)]; exact e4' j hj
  · exact hs _ (by unfold plI; omega)
  · rw [hs 4 (by decide)] at hk
    obtain ⟨b, f1, f2⟩ := e8' k hk
    exact ⟨b, f1, f2.cg fun i hi => hs _ (by unfold pcI; omega)⟩
end AP
/-- so does the row invariant, where the row's bounds hold beyond too -/
theorem Wf.cgR {s s' : tRow} (w : Wf s) (hb : RB s') (hs : ∀ j, j < 417 → s' j = s j) : Wf s' := by
  have n4 := w.bd.np
  exact ⟨w.bd.cg (hs 0 (by decide)) (hs 1 (by decide)) (hs 4 (by decide)) (fun j _ j2 => hs j (by omega)) (fun j _ j2 => hs j j2), w.sp.cg w.bd.dm (hs 0 (by decide)) (hs 1 (by decide)) (fun j _ j2 => hs j (by omega)), w.py.cg (hs 2 (by decide)) (hs 3 (by decide)) (fun j _ j2 => hs j (by omega)), w.sc.cg (hs 4 (by decide)) n4.2 (fun j _ j2 => hs j (by omega)) (fun j _ j2 => hs j j2), hb⟩
