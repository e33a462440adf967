/-! FREEZING: a String with its letters; any owned cells as they are -/
set_option maxRecDepth 100000
section FRZ
variable {G : gG} {A : Nat → Prop} {F0 F : fS} {ws wr wf : va_W} {H0 H : Heap} {locs : List Loc}
theorem VV.frzS (V : VV G A F0 F ws H0 H locs) (isF isR : List Nat) {o r n : Nat} {g : Nat → Int} (hF : isF.map (fun i => ws[i]?) = ([(o, ob 4 [.ref r, iV 0, iV 0, iV 0]), (r, aB G n g)] : va_W).map some) (hR : isR.map (fun i => ws[i]?) = wr.map some) (hnF : va_nd isF = true) (hnR : va_nd isR = true) (hdis : ∀ i ∈ isR, i ∉ isF)
    (t : List Nat) (h0 : ∀ c ∈ t, c < 128) (hlen : t.length = n) (h9 : t.length ≤ 1000) (hg : ∀ i, i < t.length → g i = (t.getD i 0 : Nat)) : ∃ F', fLe F F' ∧ SH G F' o t ∧ VV G A F0 F' wr H0 H locs := by
  have hp := V.hp.sub isF hnF hF
  have hD := V.D.sub isF hnF hF
  have hne : r ≠ o := by
    intro e
    have := hD.1 0 1 _ _ rfl rfl e.symm
    omega
  have a0 := hp.1 0 _ rfl
  have a1 := hp.1 1 _ rfl
  obtain ⟨F', h1, h2, -, h3⟩ := V.frz isF isR hF hR hnF hnR hdis (fun q => if q.1 = o then .inr (.inl (r, jhash t)) else .inl q.2) (fun q hq => by
    simp only [List.mem_cons, List.not_mem_nil, or_false] at hq
    rcases hq with rfl | rfl
    · rw [if_pos rfl]
      exact ⟨iZ 0, iZ 0, Or.inl ⟨rfl, rfl⟩, a0⟩
    · rw [if_neg hne]
      exact a1)
  refine ⟨F', h1, ⟨r, ?_, h0, h9, g, ?_, hg⟩, h3⟩
  · have := h2 _ List.mem_cons_self
    rw [if_pos rfl] at this
    exact this
  · have := h2 _ (List.mem_cons_of_mem _ List.mem_cons_self)
    rw [if_neg hne] at this
    rw [hlen]
    exact this
theorem VV.frzA (V : VV G A F0 F ws H0 H locs) (isF isR : List Nat) (hF : isF.map (fun i => ws[i]?) = wf.map some) (hR : isR.map (fun i => ws[i]?) = wr.map some) (hnF : va_nd isF = true) (hnR : va_nd isR = true) (hdis : ∀ i ∈ isR, i ∉ isF) : ∃ F', fLe F F' ∧ (∀ q ∈ wf, F' q.1 = some (.inl q.2)) ∧ VV G A F0 F' wr H0 H locs := by
  have hp := V.hp.sub isF hnF hF
  obtain ⟨F', h1, h2, -, h3⟩ := V.frz isF isR hF hR hnF hnR hdis (fun q => .inl q.2) (fun q hq => by
    obtain ⟨k, hk⟩ := List.getElem?_of_mem hq
    exact hp.1 k q hk)
  exact ⟨F', h1, h2, h3⟩
end FRZ
