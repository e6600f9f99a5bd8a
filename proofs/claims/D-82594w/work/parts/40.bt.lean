/-! THE WHOLE, pure: rows, their number, objects, nodes -/
abbrev GS : Type := Nat × (Nat → RowT) × Nat × (Nat → NS)
abbrev qN (G : GS) : Nat := G.1
abbrev qR (G : GS) : Nat → RowT := G.2.1
abbrev qO (G : GS) : Nat := G.2.2.1
abbrev qD (G : GS) : Nat → NS := G.2.2.2
/-- row i is undone by someone -/
noncomputable def unF (G : GS) (i : Nat) : Bool := dm (∃ u, 1 ≤ u ∧ u ≤ qN G ∧ rS (qR G u) = 4 ∧ rO (qR G u) = i)
def GI (G : GS) : Prop :=
  RI (qR G) (qN G) ∧ (1 ≤ qO G ∧ qO G ≤ 40) ∧ (∀ k, k < 4 → NI (qR G) (qN G) (qD G k)) ∧ (∀ k, k < 4 → ∀ i, 1 ≤ i → i ≤ qN G → rW (qR G i) = k → vK (qD G k) i = true) ∧
  (∀ k, k < 4 → (∀ i, vK (qD G k) i = true → rT (qR G i) ≤ vT (qD G k)) ∧ vM (qD G k) = ((List.range (qN G)).filter (fun i => vK (qD G k) (i + 1))).length) ∧
  (∀ i, 1 ≤ i → i ≤ qN G → rS (qR G i) ≠ 4 → rO (qR G i) < qO G ∧ (∀ p, rP (qR G i) = some p → p < qO G) ∧ ∀ b, rB (qR G i) = some b → b < qO G) ∧
  (∀ o, 0 < o → o < qO G → ∃ i, 1 ≤ i ∧ i ≤ qN G ∧ rS (qR G i) = 0 ∧ rO (qR G i) = o)
/-! what is foreign to a label -/
def For (M : Mem) (g : Nat) (Z : Nat → Prop) : Prop := (∀ b, Z b → kd M b < 1000 → ow M b ≠ g) ∧ (∀ b a, Z b → kd M b = 1000 + a → kd M a = 7 → ow M a ≠ g) ∧ ∀ b, Z b → kd M b ≠ 3 ∧ kd M b ≠ 30
theorem LZ.lb {M : Mem} {d : NdA} {R : Nat → RowT} {ra sa : Nat → Nat} {N : NS} (h : NDS M d R ra sa N) {g : Nat} (hg : g ≠ nG d) : For M g (LZ M d) := by
  obtain ⟨hX, hK, hU, -, -, -⟩ := h
  have hb := hX.2.2.2.2.1
  have hP := hX.2.1
  have k1 := hX.1.1.1
  have k2 := hX.1.2.1.1
  have k3 := hK.1
  have k4 := hU.1
  refine ⟨fun b hz hk => ?_, fun b a hz hk ha => ?_, fun b hz => ?_⟩
  · rcases hz with ⟨o, ho, rfl | rfl | hz⟩ | hz | rfl | rfl | hz | rfl | rfl
    · rw [(hb.2.2.2 o ho).1]; exact Ne.symm hg
    · rw [(hb.2.2.2 o ho).2]; exact Ne.symm hg
    · omega
    · rw [hz.2]; exact Ne.symm hg
    · rw [hb.1]; exact Ne.symm hg
    · rw [hb.2.2.1]; exact Ne.symm hg
    · omega
    · rw [hK.2.2.1]; exact Ne.symm hg
    · rw [hU.2.2.1]; exact Ne.symm hg
  · rcases hz with ⟨o, ho, rfl | rfl | hz⟩ | hz | rfl | rfl | hz | rfl | rfl
    · have := hP.kp ho; omega
    · have := hP.kl ho; omega
    · have : a = nC d o := by omega
      rw [this, (hb.2.2.2 o ho).2]; exact Ne.symm hg
    · omega
    · omega
    · omega
    · have : a = nL d := by omega
      rw [this, hb.2.2.1]; exact Ne.symm hg
    · omega
    · omega
  · rcases hz with ⟨o, ho, rfl | rfl | hz⟩ | hz | rfl | rfl | hz | rfl | rfl
    · have := hP.kp ho; omega
    · have := hP.kl ho; omega
    · omega
    · omega
    · omega
    · omega
    · omega
    · omega
    · omega
/-- a node stays when what is foreign to it changes -/
theorem NDS.fr {Z : Nat → Prop} {M M1 : Mem} {d : NdA} {R : Nat → RowT} {ra sa : Nat → Nat} {N : NS} (h : NDS M d R ra sa N) (hf : Fr Z M M1) (hz : For M (nG d) Z) : NDS M1 d R ra sa N := by
  obtain ⟨hX, hK, hU, hm, hS, hn⟩ := h
  have hb := hX.2.2.2.2.1
  have hT := hX.1.1
  have k1 := hT.1
  have nzT : ¬ Z (nT d) := fun z => hz.1 _ z (by omega) hb.1
  have qT := hf.2 (nT d) (by omega) nzT
  refine ⟨hX.fr hf (hT.fr hf nzT (fun z => hz.1 _ z (by rw [hT.2.2.2.2.2.2.1]; omega) hb.2.1)) (fun b ho hk z => hz.1 b z (by omega) ho) (fun b a hk ha ho z => hz.2.1 b a z hk ha ho) (fun b hk z => ?_) (fun i hi => hi), hK.fr hf (fun z => hz.1 _ z (by rw [hK.1]; omega) hK.2.2.1), hU.fr hf (fun z => hz.1 _ z (by rw [hU.1]; omega) hU.2.2.1), ⟨(qT.2.1 134).trans hm.1, (qT.2.1 135).trans hm.2.1, (qT.2.1 136).trans hm.2.2⟩, ⟨fun i hi => ?_, hS.2⟩, hn⟩
  · have := hz.2.2 b z; omega
  · obtain ⟨s1, s2, s3, s4⟩ := hS.1 i hi
    have q := hf.2 (sa i) (by omega) (fun z => hz.1 _ z (by omega) s3)
    exact ⟨s1, q.1.trans s2, q.2.2.2.2.2.2.trans s3, (q.2.2.1 96).trans s4⟩
/-- rows that a node does not know may change -/
theorem NDS.rc {M : Mem} {d : NdA} {R Q : Nat → RowT} {ra rb sa : Nat → Nat} {N : NS} (h : NDS M d R ra sa N) (hR : ∀ i, vK N i = true → R i = Q i) (hr : ∀ i, vK N i = true → ra i = rb i) : NDS M d Q rb sa N := by
  obtain ⟨hX, hK, hU, hm, hS, hn⟩ := h
  refine ⟨hX.rc (fun i hi => hR i ((hn i).mp hi).1) (fun i hi => hr i ((hn i).mp hi).1) (fun i hi => hi), hK, hU, hm, ⟨fun i hi => ?_, hS.2⟩, fun i => ?_⟩
  · rw [← hr i hi]; exact hS.1 i hi
  · rw [hn i]
    constructor
    · intro z; rw [← hR i z.1]; exact z
    · intro z; rw [hR i z.1]; exact z
/-! THE COMPONENT: rows' list, trees' array, undone's array, rows, nodes' cells, steps -/
abbrev BA : Type := Nat × Nat × Nat × (Nat → Nat) × (Nat → NdA) × (Nat → Nat → Nat)
abbrev bL (A : BA) : Nat := A.1
abbrev bT (A : BA) : Nat := A.2.1
abbrev bU (A : BA) : Nat := A.2.2.1
abbrev bR (A : BA) : Nat → Nat := A.2.2.2.1
abbrev bD (A : BA) : Nat → NdA := A.2.2.2.2.1
abbrev bS (A : BA) : Nat → Nat → Nat := A.2.2.2.2.2
def rwL (ra : Nat → Nat) (n : Nat) : List Nat := (List.range n).map (fun i => ra (i + 1))
theorem rwL_len (ra : Nat → Nat) (n : Nat) : (rwL ra n).length = n := by simp [rwL]
theorem rwL_get {ra : Nat → Nat} {n i : Nat} (h : i < n) : (rwL ra n)[i]? = some (ra (i + 1)) := by simp [rwL, h]
theorem rwL_snoc (ra : Nat → Nat) (n q : Nat) : rwL (va_up ra (n + 1) q) (n + 1) = rwL ra n ++ [q] := by
  unfold rwL
  rw [List.range_succ, List.map_append]
  congr 1
  · refine List.map_congr_left (fun i hi => ?_)
    have := List.mem_range.mp hi
    exact va_up_ne _ _ (by omega)
  · simp [va_up_self]
def BH (M : Mem) (X : Nat) (A : BA) (n ob : Nat) (un : Nat → Bool) : Prop :=
  (kd M X = 1 ∧ ow M X = 10 ∧ fR M 0 X = some (bL A) ∧ fR M 1 X = some (bT A) ∧ fR M 2 X = some (bU A) ∧ fI M 3 X = nI ob) ∧ (Lst M (bL A) (rwL (bR A) n) (capL n) ∧ ow M (bL A) = 10) ∧
  (kd M (bT A) = 25 ∧ ow M (bT A) = 10 ∧ ln M (bT A) = 4 ∧ ∀ k, k < 4 → eR M (bT A) k = some (nT (bD A k))) ∧ (kd M (bU A) = 21 ∧ ow M (bU A) = 10 ∧ ln M (bU A) = 301 ∧ ∀ i, i < 301 → eI M (bU A) i = b2i (un i))
def BT (M : Mem) (X : Nat) (A : BA) (G : GS) : Prop :=
  BH M X A (qN G) (qO G) (unF G) ∧ (∀ i, 1 ≤ i → i ≤ qN G → RwO M (bR A i) i (qR G i)) ∧ (∀ k, k < 4 → nG (bD A k) = k + 1) ∧ ∀ k, k < 4 → NDS M (bD A k) (qR G) (bR A) (bS A k) (qD G k)
/-- the head stays when what is foreign to it changes -/
theorem BH.fr {Z : Nat → Prop} {M M1 : Mem} {X : Nat} {A : BA} {n ob : Nat} {un : Nat → Bool} (h : BH M X A n ob un) (hf : Fr Z M M1) (hz : For M 10 Z) : BH M1 X A n ob un := by
  obtain ⟨⟨a1, a2, a3, a4, a5, a6⟩, ⟨b1, b2⟩, ⟨c1, c2, c3, c4⟩, ⟨e1, e2, e3, e4⟩⟩ := h
  have q1 := hf.2 X (by omega) (fun z => hz.1 _ z (by omega) a2)
  have hk := b1.1
  have q2 := hf.2 (bL A) (by omega) (fun z => hz.1 _ z (by omega) b2)
  have q3 := hf.2 (bT A) (by omega) (fun z => hz.1 _ z (by omega) c2)
  have q4 := hf.2 (bU A) (by omega) (fun z => hz.1 _ z (by omega) e2)
  refine ⟨⟨q1.1.trans a1, q1.2.2.2.2.2.2.trans a2, (q1.2.2.1 0).trans a3, (q1.2.2.1 1).trans a4, (q1.2.2.1 2).trans a5, (q1.2.1 3).trans a6⟩, ⟨b1.fr q2 (fun q hq => hf.2 q (by omega) (fun z => hz.2.1 q _ z hq hk b2)) (fun q hq => hf.2 q (by omega) (fun z => (hz.2.2 q z).2 hq)), q2.2.2.2.2.2.2.trans b2⟩, ⟨q3.1.trans c1, q3.2.2.2.2.2.2.trans c2, q3.2.2.2.1.trans c3, fun k hk => by rw [q3.2.2.2.2.2.1]; exact c4 k hk⟩, ⟨q4.1.trans e1, q4.2.2.2.2.2.2.trans e2, q4.2.2.2.1.trans e3, fun i hi => by rw [q4.2.2.2.2.1]; exact e4 i hi⟩⟩
/-- what the component touches: nothing with the label 11 -/
def BZ (M : Mem) : Nat → Prop := fun b => kd M b < 1000 → ow M b ≠ 11
theorem For.bz {M : Mem} {Z : Nat → Prop} (h : For M 11 Z) : ∀ b, kd M b ≠ 0 → Z b → BZ M b := fun b _ z hk => h.1 b z hk
theorem BZ.old {Z : Nat → Prop} {M N : Mem} (h : Fr Z M N) : ∀ b, kd M b ≠ 0 → BZ N b → BZ M b := by
  intro b hb hz hk
  rw [← (h.1 b hb).2]
  exact hz (by rw [(h.1 b hb).1]; exact hk)
/-! an index out of an int -/
def ix (m : Nat) (x : Int32) : Option Nat := if 0 ≤ x ∧ x < nI m then some x.toNatClampNeg else none
theorem ix_some {m j : Nat} (h : j < m) (hm : m < 2 ^ 31) : ix m (nI j) = some j := by
  unfold ix
  rw [if_pos ⟨nI_pos' (by omega), nI_lt h hm⟩, nI_clamp (by omega)]
theorem ix_none {m : Nat} {x : Int32} (h : x < 0 ∨ nI m ≤ x) : ix m x = none := by
  unfold ix
  refine if_neg (fun z => ?_)
  rcases h with h | h
  · exact absurd z.1 (Int32.not_le.mpr h)
  · exact absurd z.2 (Int32.not_lt.mpr h)
theorem ix_cases (m : Nat) (x : Int32) (hm : m < 2 ^ 31) : (∃ j, j < m ∧ x = nI j ∧ ix m x = some j) ∨ ((x < 0 ∨ nI m ≤ x) ∧ ix m x = none) := by
  rcases pk_ix x hm with h | h | ⟨j, hj, rfl⟩
  · exact Or.inr ⟨Or.inl h, ix_none (Or.inl h)⟩
  · exact Or.inr ⟨Or.inr h, ix_none (Or.inr h)⟩
  · exact Or.inl ⟨j, hj, rfl, ix_some hj hm⟩
