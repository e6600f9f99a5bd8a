/-! A NODE, pure: known, undone, order, capacities, many, time, cost -/
abbrev NS : Type := (Nat → Bool) × (Nat → Bool) × List Nat × (Nat → Nat) × Nat × Nat × Nat
abbrev vK (N : NS) : Nat → Bool := N.1
abbrev vU (N : NS) : Nat → Bool := N.2.1
abbrev vN (N : NS) : List Nat := N.2.2.1
abbrev vC (N : NS) : Nat → Nat := N.2.2.2.1
abbrev vM (N : NS) : Nat := N.2.2.2.2.1
abbrev vT (N : NS) : Nat := N.2.2.2.2.2.1
abbrev vO (N : NS) : Nat := N.2.2.2.2.2.2
def NDS (M : Mem) (d : NdA) (R : Nat → RowT) (ra sa : Nat → Nat) (N : NS) : Prop := ND M d R ra sa (vK N) (vU N) (vN N) (vC N) (vM N) (vT N) (vO N)
/-- rejudging from place i on, the undone ones being V and then W, m: what comes in between -/
noncomputable def rjC (R : Nat → RowT) (V W : Nat → Bool) (ns m : List Nat) (i : Nat) (cp : Nat → Nat) : Nat → Nat := goL R W (rn R W tS0 (ns.take i)) (m ++ ns.drop i) (bkL R V (rn R V tS0 (ns.take i)) (ns.drop i) cp)
noncomputable def lrn (R : Nat → RowT) (N : NS) (j : Nat) : NS :=
  if rS (R j) = 4 then
    (if vK N (rO (R j)) = true then (va_up (vK N) j true, va_up (vU N) (rO (R j)) true, vN N, rjC R (vU N) (va_up (vU N) (rO (R j)) true) (vN N) [] ((vN N).idxOf (rO (R j))) (vC N), vM N + 1, max (vT N) (rT (R j)), (vN N).length - (vN N).idxOf (rO (R j)))
    else (va_up (vK N) j true, va_up (vU N) (rO (R j)) true, vN N, vC N, vM N + 1, max (vT N) (rT (R j)), 0))
  else (va_up (vK N) j true, vU N, (vN N).take (plc R j (vN N)) ++ j :: (vN N).drop (plc R j (vN N)), rjC R (vU N) (vU N) (vN N) [j] (plc R j (vN N)) (vC N), vM N + 1, max (vT N) (rT (R j)), (vN N).length - plc R j (vN N) + 1)
/-- what a list of n has cost -/
def cG : Nat → Nat
  | 0 => 0
  | n + 1 => cG n + gC n (capL n)
def sG : Nat → Nat
  | 0 => 0
  | n + 1 => sG n + gS n (capL n)
theorem cG_mono {a b : Nat} (h : a ≤ b) : cG a ≤ cG b := by
  induction b with
  | zero => have : a = 0 := by omega
            rw [this]; exact Nat.le_refl _
  | succ b ih =>
    rcases Nat.lt_or_ge b a with z | z
    · have : a = b + 1 := by omega
      rw [this]; exact Nat.le_refl _
    · exact Nat.le_trans (ih z) (Nat.le_add_right _ _)
theorem sG_mono {a b : Nat} (h : a ≤ b) : sG a ≤ sG b := by
  induction b with
  | zero => have : a = 0 := by omega
            rw [this]; exact Nat.le_refl _
  | succ b ih =>
    rcases Nat.lt_or_ge b a with z | z
    · have : a = b + 1 := by omega
      rw [this]; exact Nat.le_refl _
    · exact Nat.le_trans (ih z) (Nat.le_add_right _ _)
theorem cG_300 : cG 301 ≤ 20 := by decide +kernel
theorem sG_300 : sG 301 ≤ 1200 := by decide +kernel
def pC (N : NS) : Nat := kC (vC N) + (cG 301 - cG (vN N).length)
def pS (N : NS) : Nat := kS (vC N) + (sG 301 - sG (vN N).length)
/-- the rows up to n -/
def RI (R : Nat → RowT) (n : Nat) : Prop :=
  n ≤ 300 ∧ (∀ i, rT (R i) ≤ n ∧ rW (R i) < 4 ∧ rS (R i) < 5) ∧ (∀ i, 1 ≤ i → i ≤ n → rS (R i) ≠ 4 → rOk (R i)) ∧ (∀ i, 1 ≤ i → i ≤ n → rS (R i) = 4 → 1 ≤ rO (R i) ∧ rO (R i) < i ∧ rS (R (rO (R i))) ≠ 4 ∧ rS (R (rO (R i))) ≠ 0 ∧ rW (R (rO (R i))) = rW (R i)) ∧
  (∀ i j, 1 ≤ i → i ≤ n → 1 ≤ j → j ≤ n → rT (R i) = rT (R j) → rW (R i) = rW (R j) → i = j) ∧ (∀ i j, 1 ≤ i → i ≤ n → 1 ≤ j → j ≤ n → rS (R i) = 0 → rS (R j) = 0 → rO (R i) = rO (R j) → i = j)
/-- a node of them -/
def NI (R : Nat → RowT) (n : Nat) (N : NS) : Prop :=
  (∀ i, vK N i = true → 1 ≤ i ∧ i ≤ n) ∧ srt R (vN N) ∧ (∀ i, i ∈ vN N ↔ vK N i = true ∧ rS (R i) ≠ 4) ∧ (∀ t, vU N t = true ↔ ∃ u, vK N u = true ∧ rS (R u) = 4 ∧ rO (R u) = t) ∧ vT N ≤ n ∧ vM N ≤ n
theorem srt.nd {R : Nat → RowT} {ns : List Nat} (h : srt R ns) : ns.Nodup := List.Pairwise.imp (fun hab e => by rw [e] at hab; exact befP.irr hab) h
theorem NI.ok {R : Nat → RowT} {n : Nat} {N : NS} (hR : RI R n) (h : NI R n N) : nsOk R (vN N) := by
  refine ⟨h.2.1.nd, fun i hi => ?_, fun i hi j hj => ?_⟩
  · have := (h.2.2.1 i).mp hi
    exact hR.2.2.1 i (h.1 i this.1).1 (h.1 i this.1).2 this.2
  · have h1 := (h.2.2.1 i).mp hi
    have h2 := (h.2.2.1 j).mp hj
    exact hR.2.2.2.2.2 i j (h.1 i h1.1).1 (h.1 i h1.1).2 (h.1 j h2.1).1 (h.1 j h2.1).2
theorem NI.len {R : Nat → RowT} {n : Nat} {N : NS} (hR : RI R n) (h : NI R n N) {j : Nat} (hj1 : 1 ≤ j) (hjn : j ≤ n) (hj : vK N j = false) : (vN N).length < 300 := by
  have hm : ∀ i ∈ vN N, 1 ≤ i ∧ i ≤ n ∧ i ≠ j := fun i hi => by
    have h1 := ((h.2.2.1 i).mp hi).1
    exact ⟨(h.1 i h1).1, (h.1 i h1).2, fun z => by rw [z, hj] at h1; cases h1⟩
  have hnd : (0 :: j :: vN N).Nodup := by
    refine List.nodup_cons.mpr ⟨fun z => ?_, List.nodup_cons.mpr ⟨fun z => (hm j z).2.2 rfl, h.2.1.nd⟩⟩
    rcases List.mem_cons.mp z with z | z
    · omega
    · have := (hm 0 z).1; omega
  have := nodup_len (m := 301) hnd (fun x hx => by
    have := hR.1
    rcases List.mem_cons.mp hx with z | z
    · omega
    · rcases List.mem_cons.mp z with z | z
      · omega
      · have := (hm x z).2.1; omega)
  simp at this
  omega
theorem NI.ins {R : Nat → RowT} {n : Nat} {N : NS} (hR : RI R n) (h : NI R n N) {j : Nat} (hj1 : 1 ≤ j) (hjn : j ≤ n) (hj : vK N j = false) (hs : rS (R j) ≠ 4) : nsOk R ((vN N).take (plc R j (vN N)) ++ j :: (vN N).drop (plc R j (vN N))) ∧ srt R ((vN N).take (plc R j (vN N)) ++ j :: (vN N).drop (plc R j (vN N))) := by
  have hmem : ∀ i, i ∈ (vN N).take (plc R j (vN N)) ++ j :: (vN N).drop (plc R j (vN N)) ↔ i = j ∨ i ∈ vN N := fun i => by
    rw [List.mem_append, List.mem_cons]
    have e : i ∈ vN N ↔ i ∈ (vN N).take (plc R j (vN N)) ∨ i ∈ (vN N).drop (plc R j (vN N)) := by
      rw [← List.mem_append, List.take_append_drop]
    rw [e]
    constructor
    · rintro (z | z | z)
      · exact Or.inr (Or.inl z)
      · exact Or.inl z
      · exact Or.inr (Or.inr z)
    · rintro (z | z | z)
      · exact Or.inr (Or.inl z)
      · exact Or.inl z
      · exact Or.inr (Or.inr z)
  have hk : ∀ i, i = j ∨ i ∈ vN N → 1 ≤ i ∧ i ≤ n ∧ rS (R i) ≠ 4 := fun i hi => by
    rcases hi with rfl | hi
    · exact ⟨hj1, hjn, hs⟩
    · have := (h.2.2.1 i).mp hi
      exact ⟨(h.1 i this.1).1, (h.1 i this.1).2, this.2⟩
  have hnj : ∀ i ∈ vN N, i ≠ j := fun i hi z => by
    have := ((h.2.2.1 i).mp hi).1
    rw [z, hj] at this; cases this
  have hsr : srt R ((vN N).take (plc R j (vN N)) ++ j :: (vN N).drop (plc R j (vN N))) := by
    have hp : ((vN N).take (plc R j (vN N)) ++ (vN N).drop (plc R j (vN N))).Pairwise (fun a b => befP (R a) (R b)) := by rw [List.take_append_drop]; exact h.2.1
    obtain ⟨tw1, tw2⟩ := h.2.1.tw j
    rw [List.pairwise_append] at hp
    have hA : ∀ a ∈ (vN N).take (plc R j (vN N)), befP (R a) (R j) := fun a ha => by
      obtain ⟨i, hi, rfl⟩ := List.getElem_of_mem ha
      rw [List.length_take] at hi
      exact bef_iff.mp (tw1 i _ (by omega) (by rw [List.getElem_take]; exact List.getElem?_eq_getElem (by omega)))
    have hB : ∀ a ∈ (vN N).drop (plc R j (vN N)), befP (R j) (R a) := fun a ha => by
      have ham : a ∈ vN N := List.mem_of_mem_drop ha
      obtain ⟨i, hi, hia⟩ := List.getElem_of_mem ha
      rw [List.length_drop] at hi
      have hf := bef_f.mp (tw2 (plc R j (vN N) + i) a (by omega) (by rw [← hia, List.getElem_drop]; exact List.getElem?_eq_getElem (by omega)))
      have h1 := hk a (Or.inr ham)
      have hne := hnj a ham
      have hu := fun e1 e2 => hR.2.2.2.2.1 a j h1.1 h1.2.1 hj1 hjn e1 e2
      unfold befP at hf ⊢
      rcases Nat.lt_trichotomy (rT (R j)) (rT (R a)) with z | z | z
      · exact Or.inl z
      · rcases Nat.lt_trichotomy (rW (R j)) (rW (R a)) with y | y | y
        · exact Or.inr ⟨z, y⟩
        · exact absurd (hu z.symm y.symm) hne
        · exact absurd (Or.inr ⟨z.symm, y⟩) hf
      · exact absurd (Or.inl z) hf
    refine List.pairwise_append.mpr ⟨hp.1, List.pairwise_cons.mpr ⟨hB, hp.2.1⟩, fun a ha b hb => ?_⟩
    rcases List.mem_cons.mp hb with rfl | hb
    · exact hA a ha
    · exact hp.2.2 a ha b hb
  refine ⟨⟨hsr.nd, fun i hi => ?_, fun i hi i2 hi2 => ?_⟩, hsr⟩
  · have := hk i ((hmem i).mp hi)
    exact hR.2.2.1 i this.1 this.2.1 this.2.2
  · have h1 := hk i ((hmem i).mp hi)
    have h2 := hk i2 ((hmem i2).mp hi2)
    exact hR.2.2.2.2.2 i i2 h1.1 h1.2.1 h2.1 h2.2.1
theorem pC_mk (a b : Nat → Bool) (ns : List Nat) (cp : Nat → Nat) (x y z : Nat) : pC (a, b, ns, cp, x, y, z) = kC cp + (cG 301 - cG ns.length) ∧ pS (a, b, ns, cp, x, y, z) = kS cp + (sG 301 - sG ns.length) := ⟨rfl, rfl⟩
theorem pC_def (N : NS) : pC N = kC (vC N) + (cG 301 - cG (vN N).length) ∧ pS N = kS (vC N) + (sG 301 - sG (vN N).length) := ⟨rfl, rfl⟩
theorem lrn_1 {R : Nat → RowT} {N : NS} {j : Nat} (hs : rS (R j) = 4) (hk : vK N (rO (R j)) = true) : lrn R N j = (va_up (vK N) j true, va_up (vU N) (rO (R j)) true, vN N, rjC R (vU N) (va_up (vU N) (rO (R j)) true) (vN N) [] ((vN N).idxOf (rO (R j))) (vC N), vM N + 1, max (vT N) (rT (R j)), (vN N).length - (vN N).idxOf (rO (R j))) := by unfold lrn; rw [if_pos hs, if_pos hk]
theorem lrn_2 {R : Nat → RowT} {N : NS} {j : Nat} (hs : rS (R j) = 4) (hk : vK N (rO (R j)) = false) : lrn R N j = (va_up (vK N) j true, va_up (vU N) (rO (R j)) true, vN N, vC N, vM N + 1, max (vT N) (rT (R j)), 0) := by unfold lrn; rw [if_pos hs, hk]; rfl
theorem lrn_3 {R : Nat → RowT} {N : NS} {j : Nat} (hs : rS (R j) ≠ 4) : lrn R N j = (va_up (vK N) j true, vU N, (vN N).take (plc R j (vN N)) ++ j :: (vN N).drop (plc R j (vN N)), rjC R (vU N) (vU N) (vN N) [j] (plc R j (vN N)) (vC N), vM N + 1, max (vT N) (rT (R j)), (vN N).length - plc R j (vN N) + 1) := by unfold lrn; rw [if_neg hs]
theorem rjC_le (R : Nat → RowT) (V W : Nat → Bool) (ns m : List Nat) (i : Nat) (cp : Nat → Nat) : kC (rjC R V W ns m i cp) ≤ kC cp ∧ kS (rjC R V W ns m i cp) ≤ kS cp := by
  have h1 := bkL_mono R V (rn R V tS0 (ns.take i)) (ns.drop i) cp
  have h2 := goL_mono R W (rn R W tS0 (ns.take i)) (m ++ ns.drop i) (bkL R V (rn R V tS0 (ns.take i)) (ns.drop i) cp)
  exact ⟨Nat.le_trans h2.1 h1.1, Nat.le_trans h2.2 h1.2⟩
theorem ins_len (R : Nat → RowT) (j : Nat) (ns : List Nat) : (ns.take (plc R j ns) ++ j :: ns.drop (plc R j ns)).length = ns.length + 1 := by
  have hple : plc R j ns ≤ ns.length := tw_le
  simp; omega
theorem lrn_pot {R : Nat → RowT} {N : NS} {j : Nat} (hl : (vN N).length < 300) : pC (lrn R N j) + (if rS (R j) = 4 then 0 else gC (vN N).length (capL (vN N).length)) ≤ pC N ∧ pS (lrn R N j) + (if rS (R j) = 4 then 0 else gS (vN N).length (capL (vN N).length)) ≤ pS N := by
  have e := pC_def N
  by_cases hs : rS (R j) = 4
  · rw [if_pos hs, if_pos hs]
    cases hk : vK N (rO (R j)) with
    | true =>
      have h1 := rjC_le R (vU N) (va_up (vU N) (rO (R j)) true) (vN N) [] ((vN N).idxOf (rO (R j))) (vC N)
      rw [lrn_1 hs hk, (pC_mk _ _ _ _ _ _ _).1, (pC_mk _ _ _ _ _ _ _).2]
      omega
    | false =>
      rw [lrn_2 hs hk, (pC_mk _ _ _ _ _ _ _).1, (pC_mk _ _ _ _ _ _ _).2]
      omega
  · rw [if_neg hs, if_neg hs]
    have h1 := rjC_le R (vU N) (vU N) (vN N) [j] (plc R j (vN N)) (vC N)
    rw [lrn_3 hs, (pC_mk _ _ _ _ _ _ _).1, (pC_mk _ _ _ _ _ _ _).2, ins_len]
    have c1 : cG (vN N).length + gC (vN N).length (capL (vN N).length) ≤ cG 301 := cG_mono (a := (vN N).length + 1) (by omega)
    have s1 : sG (vN N).length + gS (vN N).length (capL (vN N).length) ≤ sG 301 := sG_mono (a := (vN N).length + 1) (by omega)
    have c2 : cG ((vN N).length + 1) = cG (vN N).length + gC (vN N).length (capL (vN N).length) := rfl
    have s2 : sG ((vN N).length + 1) = sG (vN N).length + gS (vN N).length (capL (vN N).length) := rfl
    omega
theorem c_Tlearn (l : Launch) (Θ : Glob) (M : Mem) (d : NdA) (R : Nat → RowT) (n : Nat) (hR : RI R n) (ra sa : Nat → Nat) (N : NS) (hI : NI R n N) (hN : NDS M d R ra sa N) (j : Nat) (hj1 : 1 ≤ j) (hjn : j ≤ n) (hj : vK N j = false) (hr : RwO M (ra j) j (R j)) (mc ms : Nat) (hmc : 1 + (pC N - pC (lrn R N j)) ≤ mc) (hms : 7 + (pS N - pS (lrn R N j)) ≤ ms) :
    Ct l Θ y_Tlearn 17 mc ms [.ref (nT d), .ref (ra j)] M (pV fun M1 => ∃ q, NDS M1 d R ra (va_up sa j q) (lrn R N j) ∧ Fr (LZ M d) M M1) := by
  have hb : ∀ i, rT (R i) < 2 ^ 30 ∧ rW (R i) < 2 ^ 30 := fun i => by have := hR.2.1 i; have := hR.1; omega
  have hb5 := (hR.2.1 j).2.2
  have hn := hR.1
  have hm1 := hI.2.2.2.2.1
  have hm2 := hI.2.2.2.2.2
  have hlen := NI.len hR hI hj1 hjn hj
  have hpt := lrn_pot (R := R) (N := N) (j := j) hlen
  have e := pC_def N
  by_cases hs : rS (R j) = 4
  · obtain ⟨t1, t2, t3, t4⟩ := hR.2.2.2.1 j hj1 hjn hs
    cases hkt : vK N (rO (R j)) with
    | true =>
      have htm : rO (R j) ∈ vN N := (hI.2.2.1 _).mpr ⟨hkt, t3⟩
      have hix : (vN N).idxOf (rO (R j)) < (vN N).length := List.idxOf_lt_length_of_mem htm
      have hdr : (vN N).drop ((vN N).idxOf (rO (R j))) = rO (R j) :: (vN N).drop ((vN N).idxOf (rO (R j)) + 1) := by
        rw [List.drop_eq_getElem_cons hix, List.getElem_idxOf hix]
      have hp : vN N = (vN N).take ((vN N).idxOf (rO (R j))) ++ rO (R j) :: (vN N).drop ((vN N).idxOf (rO (R j)) + 1) := by rw [← hdr, List.take_append_drop]
      have hlx : ((vN N).drop ((vN N).idxOf (rO (R j)) + 1)).length + 1 = (vN N).length - (vN N).idxOf (rO (R j)) := by rw [List.length_drop]; omega
      have e2 : pC (lrn R N j) = kC (rjC R (vU N) (va_up (vU N) (rO (R j)) true) (vN N) [] ((vN N).idxOf (rO (R j))) (vC N)) + (cG 301 - cG (vN N).length) ∧ pS (lrn R N j) = kS (rjC R (vU N) (va_up (vU N) (rO (R j)) true) (vN N) [] ((vN N).idxOf (rO (R j))) (vC N)) + (sG 301 - sG (vN N).length) := by rw [lrn_1 hs hkt]; exact ⟨rfl, rfl⟩
      rw [lrn_1 hs hkt]
      have con := c_TlearnC l Θ M d R ra sa (vK N) (vU N) (vN N) (vC N) (vM N) (vT N) (vO N) hN j (by omega) hj hr hb hb5 (by omega) (by omega) hs (by omega) (by omega) t3 hkt _ _ hp (NI.ok hR hI) _ rfl (rjC R (vU N) (va_up (vU N) (rO (R j)) true) (vN N) [] ((vN N).idxOf (rO (R j))) (vC N)) (by unfold rjC; rw [hdr]; rfl) mc ms (by omega) (by omega)
      rw [hlx] at con
      exact con
    | false =>
      rw [lrn_2 hs hkt]
      exact c_TlearnB l Θ M d R ra sa (vK N) (vU N) (vN N) (vC N) (vM N) (vT N) (vO N) hN j (by omega) hj hr hb hb5 (by omega) (by omega) hs (by omega) (by omega) t3 hkt mc ms (by omega) (by omega)
  · have hple : plc R j (vN N) ≤ (vN N).length := tw_le
    have hlx : ((vN N).drop (plc R j (vN N))).length + 1 = (vN N).length - plc R j (vN N) + 1 := by rw [List.length_drop]
    have c1 : cG (vN N).length + gC (vN N).length (capL (vN N).length) ≤ cG 301 := cG_mono (a := (vN N).length + 1) (by omega)
    have s1 : sG (vN N).length + gS (vN N).length (capL (vN N).length) ≤ sG 301 := sG_mono (a := (vN N).length + 1) (by omega)
    have c2 : cG ((vN N).length + 1) = cG (vN N).length + gC (vN N).length (capL (vN N).length) := rfl
    have s2 : sG ((vN N).length + 1) = sG (vN N).length + gS (vN N).length (capL (vN N).length) := rfl
    have hq := rjC_le R (vU N) (vU N) (vN N) [j] (plc R j (vN N)) (vC N)
    have e2 : pC (lrn R N j) = kC (rjC R (vU N) (vU N) (vN N) [j] (plc R j (vN N)) (vC N)) + (cG 301 - cG ((vN N).length + 1)) ∧ pS (lrn R N j) = kS (rjC R (vU N) (vU N) (vN N) [j] (plc R j (vN N)) (vC N)) + (sG 301 - sG ((vN N).length + 1)) := by rw [lrn_3 hs, ← ins_len R j (vN N)]; exact ⟨rfl, rfl⟩
    rw [lrn_3 hs]
    have con := c_TlearnA l Θ M d R ra sa (vK N) (vU N) (vN N) (vC N) (vM N) (vT N) (vO N) hN j (by omega) hj hr hb hb5 (by omega) (by omega) hs ((vN N).take (plc R j (vN N))) ((vN N).drop (plc R j (vN N))) (List.take_append_drop _ _).symm (by rw [List.length_take]; omega) hI.2.1 (NI.ins hR hI hj1 hjn hj hs).1 hlen (rjC R (vU N) (vU N) (vN N) [j] (plc R j (vN N)) (vC N)) rfl mc ms (by omega) (by omega)
    rw [hlx] at con
    exact con
