/-! learning keeps all in order -/
theorem lrn_K (R : Nat → RowT) (N : NS) (j : Nat) : vK (lrn R N j) = va_up (vK N) j true := by
  unfold lrn; split
  · split <;> rfl
  · rfl
theorem lrn_T (R : Nat → RowT) (N : NS) (j : Nat) : vT (lrn R N j) = max (vT N) (rT (R j)) := by
  unfold lrn; split
  · split <;> rfl
  · rfl
theorem lrn_M (R : Nat → RowT) (N : NS) (j : Nat) : vM (lrn R N j) = vM N + 1 := by
  unfold lrn; split
  · split <;> rfl
  · rfl
theorem lrn_U (R : Nat → RowT) (N : NS) (j : Nat) : vU (lrn R N j) = if rS (R j) = 4 then va_up (vU N) (rO (R j)) true else vU N := by
  unfold lrn; split
  · split <;> rfl
  · rfl
theorem lrn_N4 {R : Nat → RowT} {N : NS} {j : Nat} (h : rS (R j) = 4) : vN (lrn R N j) = vN N := by
  unfold lrn; rw [if_pos h]
  split <;> rfl
theorem lrn_N {R : Nat → RowT} {N : NS} {j : Nat} (h : rS (R j) ≠ 4) : vN (lrn R N j) = (vN N).take (plc R j (vN N)) ++ j :: (vN N).drop (plc R j (vN N)) := by rw [lrn_3 h]
theorem ins_memN (R : Nat → RowT) (j : Nat) (ns : List Nat) (i : Nat) : i ∈ ns.take (plc R j ns) ++ j :: ns.drop (plc R j ns) ↔ i = j ∨ i ∈ ns := by
  have e : i ∈ ns ↔ i ∈ ns.take (plc R j ns) ∨ i ∈ ns.drop (plc R j ns) := by
    rw [← List.mem_append, List.take_append_drop]
  rw [List.mem_append, List.mem_cons, e]
  constructor
  · rintro (z | z | z)
    · exact Or.inr (Or.inl z)
    · exact Or.inl z
    · exact Or.inr (Or.inr z)
  · rintro (z | z | z)
    · exact Or.inr (Or.inl z)
    · exact Or.inl z
    · exact Or.inr (Or.inr z)
theorem NI.lrn {R : Nat → RowT} {n : Nat} {N : NS} (hR : RI R n) (h : NI R n N) {j : Nat} (hj1 : 1 ≤ j) (hjn : j ≤ n) (hj : vK N j = false) (hm : vM N < n) : NI R n (Jvm.Pilot.CBinTreesLaw_law_r9096_40ec0f.lrn R N j) := by
  have hins := fun hs => (NI.ins hR h hj1 hjn hj hs).2
  obtain ⟨h1, h2, h3, h4, h5, h6⟩ := h
  have hK : ∀ i, vK (Jvm.Pilot.CBinTreesLaw_law_r9096_40ec0f.lrn R N j) i = true ↔ i = j ∨ vK N i = true := fun i => by
    rw [lrn_K]
    by_cases e : i = j
    · rw [e, va_up_self]; exact ⟨fun _ => Or.inl rfl, fun _ => rfl⟩
    · rw [va_up_ne _ _ e]; exact ⟨Or.inr, fun z => z.resolve_left e⟩
  refine ⟨fun i hi => ?_, ?_, fun i => ?_, fun t => ?_, ?_, ?_⟩
  · rcases (hK i).mp hi with z | z
    · omega
    · exact h1 i z
  · by_cases hs : rS (R j) = 4
    · rw [lrn_N4 hs]; exact h2
    · rw [lrn_N hs]; exact hins hs
  · rw [hK i]
    by_cases hs : rS (R j) = 4
    · rw [lrn_N4 hs, h3 i]
      constructor
      · exact fun z => ⟨Or.inr z.1, z.2⟩
      · rintro ⟨z | z, w⟩
        · rw [z] at w; exact absurd hs w
        · exact ⟨z, w⟩
    · rw [lrn_N hs, ins_memN, h3 i]
      constructor
      · rintro (z | z)
        · exact ⟨Or.inl z, by rw [z]; exact hs⟩
        · exact ⟨Or.inr z.1, z.2⟩
      · rintro ⟨z | z, w⟩
        · exact Or.inl z
        · exact Or.inr ⟨z, w⟩
  · rw [lrn_U]
    have hex : (∃ u, vK (Jvm.Pilot.CBinTreesLaw_law_r9096_40ec0f.lrn R N j) u = true ∧ rS (R u) = 4 ∧ rO (R u) = t) ↔ (rS (R j) = 4 ∧ rO (R j) = t) ∨ ∃ u, vK N u = true ∧ rS (R u) = 4 ∧ rO (R u) = t := by
      constructor
      · rintro ⟨u, u1, u2⟩
        rcases (hK u).mp u1 with z | z
        · rw [z] at u2; exact Or.inl u2
        · exact Or.inr ⟨u, z, u2⟩
      · rintro (z | ⟨u, u1, u2⟩)
        · exact ⟨j, (hK j).mpr (Or.inl rfl), z⟩
        · exact ⟨u, (hK u).mpr (Or.inr u1), u2⟩
    rw [hex, ← h4 t]
    by_cases hs : rS (R j) = 4
    · rw [if_pos hs]
      by_cases e : t = rO (R j)
      · rw [e, va_up_self]; exact ⟨fun _ => Or.inl ⟨hs, rfl⟩, fun _ => rfl⟩
      · rw [va_up_ne _ _ e]; exact ⟨Or.inr, fun z => z.resolve_left (fun w => e w.2.symm)⟩
    · rw [if_neg hs]; exact ⟨Or.inr, fun z => z.resolve_left (fun w => hs w.1)⟩
  · rw [lrn_T]
    have := (hR.2.1 j).1
    omega
  · rw [lrn_M]; omega
/-! counting known rows -/
def knC (K : Nat → Bool) (n : Nat) : Nat := ((List.range n).filter (fun i => K (i + 1))).length
theorem knC_s (K : Nat → Bool) (n : Nat) : knC K (n + 1) = knC K n + (if K (n + 1) = true then 1 else 0) := by
  unfold knC
  rw [List.range_succ, List.filter_append, List.length_append]
  congr 1
  by_cases h : K (n + 1) = true
  · rw [if_pos h]; simp [List.filter, h]
  · rw [if_neg h]; simp [List.filter, h]
theorem knC_le (K : Nat → Bool) (n : Nat) : knC K n ≤ n := by
  have := List.length_filter_le (fun i => K (i + 1)) (List.range n)
  rw [List.length_range] at this
  exact this
theorem knC_cong {K Q : Nat → Bool} {n : Nat} (h : ∀ i, 1 ≤ i → i ≤ n → K i = Q i) : knC K n = knC Q n := by
  induction n with
  | zero => rfl
  | succ n ih => rw [knC_s, knC_s, ih (fun i a b => h i a (by omega)), h (n + 1) (by omega) (Nat.le_refl _)]
theorem knC_up {K : Nat → Bool} {n j : Nat} (hj1 : 1 ≤ j) (hjn : j ≤ n) (hj : K j = false) : knC (va_up K j true) n = knC K n + 1 := by
  induction n with
  | zero => omega
  | succ n ih =>
    rw [knC_s, knC_s]
    by_cases e : j = n + 1
    · subst e
      rw [va_up_self, if_pos rfl, hj, knC_cong (Q := K) (fun i a b => va_up_ne _ _ (by omega))]
      rfl
    · rw [ih (by omega), va_up_ne _ _ (by omega)]
      omega
theorem knC_lt {K : Nat → Bool} {n j : Nat} (hj1 : 1 ≤ j) (hjn : j ≤ n) (hj : K j = false) : knC K n < n := by
  have h1 := knC_up hj1 hjn hj
  have h2 := knC_le (va_up K j true) n
  omega
noncomputable def gLrn (G : GS) (k j : Nat) : GS := (qN G, qR G, qO G, va_up (qD G) k (lrn (qR G) (qD G k) j))
theorem GI.lrn {G : GS} (h : GI G) {k j : Nat} (hk : k < 4) (hj1 : 1 ≤ j) (hjn : j ≤ qN G) (hj : vK (qD G k) j = false) : GI (gLrn G k j) := by
  obtain ⟨h1, h2, h3, h4, h5, h6, h7⟩ := h
  have hm : vM (qD G k) < qN G := by
    rw [(h5 k hk).2]
    exact knC_lt hj1 hjn hj
  refine ⟨h1, h2, fun k2 hk2 => ?_, fun k2 hk2 i hi1 hin hw => ?_, fun k2 hk2 => ⟨fun i hi => ?_, ?_⟩, h6, h7⟩
  · show NI (qR G) (qN G) (va_up (qD G) k _ k2)
    by_cases e : k2 = k
    · rw [e, va_up_self]; exact NI.lrn h1 (h3 k hk) hj1 hjn hj hm
    · rw [va_up_ne _ _ e]; exact h3 k2 hk2
  · show vK (va_up (qD G) k _ k2) i = true
    by_cases e : k2 = k
    · rw [e, va_up_self, lrn_K]
      by_cases eij : i = j
      · rw [eij, va_up_self]
      · rw [va_up_ne _ _ eij]; exact h4 k hk i hi1 hin (hw.trans e)
    · rw [va_up_ne _ _ e]; exact h4 k2 hk2 i hi1 hin hw
  · show rT (qR G i) ≤ vT (va_up (qD G) k _ k2)
    have hi : vK (va_up (qD G) k (Jvm.Pilot.CBinTreesLaw_law_r9096_40ec0f.lrn (qR G) (qD G k) j) k2) i = true := hi
    by_cases e : k2 = k
    · rw [e, va_up_self, lrn_K] at hi
      rw [e, va_up_self, lrn_T]
      by_cases eij : i = j
      · rw [eij]; omega
      · rw [va_up_ne _ _ eij] at hi
        have := (h5 k hk).1 i hi
        omega
    · rw [va_up_ne _ _ e] at hi
      rw [va_up_ne _ _ e]; exact (h5 k2 hk2).1 i hi
  · show vM (va_up (qD G) k _ k2) = knC (vK (va_up (qD G) k _ k2)) (qN G)
    by_cases e : k2 = k
    · rw [e, va_up_self, lrn_M, lrn_K, knC_up hj1 hjn hj, (h5 k hk).2]; rfl
    · rw [va_up_ne _ _ e]; exact (h5 k2 hk2).2
/-- a row more, ob objects then -/
noncomputable def gAddO (G : GS) (k s o : Nat) (p b : Option Nat) (ob : Nat) : GS := (qN G + 1, va_up (qR G) (qN G + 1) (s, k, vT (qD G k) + 1, o, p, b), ob, va_up (qD G) k (lrn (va_up (qR G) (qN G + 1) (s, k, vT (qD G k) + 1, o, p, b)) (qD G k) (qN G + 1)))
/-- what a new row must be -/
def rNew (G : GS) (k s o : Nat) (p b : Option Nat) (ob : Nat) : Prop :=
  s < 5 ∧ (s ≠ 4 → 0 < o ∧ o < ob ∧ (s = 1 → ∃ q, p = some q) ∧ (∀ q, p = some q → q < ob) ∧ ∀ q, b = some q → q < ob) ∧ (s = 4 → 1 ≤ o ∧ o ≤ qN G ∧ rS (qR G o) ≠ 4 ∧ rS (qR G o) ≠ 0 ∧ rW (qR G o) = k) ∧ ((s = 0 ∧ o = qO G ∧ ob = qO G + 1 ∧ ob ≤ 40) ∨ (s ≠ 0 ∧ ob = qO G))
theorem GI.addR {G : GS} (h : GI G) {k s o ob : Nat} {p b : Option Nat} (hk : k < 4) (hn : qN G < 300) (hr : rNew G k s o p b ob) : RI (va_up (qR G) (qN G + 1) (s, k, vT (qD G k) + 1, o, p, b)) (qN G + 1) := by
  obtain ⟨h1, h2, h3, h4, h5, h6, h7⟩ := h
  obtain ⟨r1, r2, r3, r4⟩ := hr
  have hT := (h3 k hk).2.2.2.2.1
  have hob : qO G ≤ ob ∧ ob ≤ 40 := by omega
  have hne : ∀ i, i ≤ qN G → va_up (qR G) (qN G + 1) (s, k, vT (qD G k) + 1, o, p, b) i = qR G i := fun i hi => va_up_ne _ _ (by omega)
  have hse : va_up (qR G) (qN G + 1) (s, k, vT (qD G k) + 1, o, p, b) (qN G + 1) = (s, k, vT (qD G k) + 1, o, p, b) := va_up_self _ _ _
  have hkey : ∀ i, 1 ≤ i → i ≤ qN G → rW (qR G i) = k → rT (qR G i) < vT (qD G k) + 1 := fun i a c e => by
    have := (h5 k hk).1 i (h4 k hk i a c e)
    omega
  refine ⟨by omega, fun i => ?_, fun i hi1 hin hs => ?_, fun i hi1 hin hs => ?_, fun i j hi1 hin hj1 hjn e1 e2 => ?_, fun i j hi1 hin hj1 hjn e1 e2 e3 => ?_⟩
  · by_cases e : i = qN G + 1
    · rw [e, hse]; exact ⟨by show vT (qD G k) + 1 ≤ _; omega, hk, r1⟩
    · rw [va_up_ne _ _ e]
      have := h1.2.1 i
      omega
  · by_cases e : i = qN G + 1
    · rw [e, hse] at hs ⊢
      obtain ⟨q1, q2, q3, q4, q5⟩ := r2 hs
      refine ⟨q1, by show o < 40; omega, by show s < 4; have hs : s ≠ 4 := hs; omega, fun e1 => ?_, fun q e1 => ?_⟩
      · obtain ⟨q, hq⟩ := q3 e1
        exact ⟨q, hq, by have := q4 q hq; omega⟩
      · have := q5 q e1; omega
    · rw [hne i (by omega)] at hs ⊢
      exact h1.2.2.1 i hi1 (by omega) hs
  · by_cases e : i = qN G + 1
    · rw [e, hse] at hs ⊢
      obtain ⟨q1, q2, q3, q4, q5⟩ := r3 hs
      have eo : rO ((s, k, vT (qD G k) + 1, o, p, b) : RowT) = o := rfl
      rw [eo, hne o q2]
      exact ⟨q1, by omega, q3, q4, q5⟩
    · rw [hne i (by omega)] at hs ⊢
      have := h1.2.2.2.1 i hi1 (by omega) hs
      rw [hne _ (by omega)]
      exact this
  · by_cases ei : i = qN G + 1
    · by_cases ej : j = qN G + 1
      · omega
      · rw [ei, hse, hne j (by omega)] at e1 e2
        have := hkey j hj1 (by omega) e2.symm
        have e1 : vT (qD G k) + 1 = _ := e1
        omega
    · by_cases ej : j = qN G + 1
      · rw [ej, hse, hne i (by omega)] at e1 e2
        have := hkey i hi1 (by omega) e2
        have e1 : _ = vT (qD G k) + 1 := e1
        omega
      · rw [hne i (by omega), hne j (by omega)] at e1 e2
        exact h1.2.2.2.2.1 i j hi1 (by omega) hj1 (by omega) e1 e2
  · by_cases ei : i = qN G + 1
    · by_cases ej : j = qN G + 1
      · omega
      · rw [ei, hse] at e1 e3
        rw [hne j (by omega)] at e2 e3
        have e1 : s = 0 := e1
        have e3 : o = _ := e3
        have := (h6 j hj1 (by omega) (by omega)).1
        omega
    · by_cases ej : j = qN G + 1
      · rw [ej, hse] at e2 e3
        rw [hne i (by omega)] at e1 e3
        have e2 : s = 0 := e2
        have e3 : _ = o := e3
        have := (h6 i hi1 (by omega) (by omega)).1
        omega
      · rw [hne i (by omega)] at e1 e3
        rw [hne j (by omega)] at e2 e3
        exact h1.2.2.2.2.2 i j hi1 (by omega) hj1 (by omega) e1 e2 e3
theorem GI.add {G : GS} (h : GI G) {k s o ob : Nat} {p b : Option Nat} (hk : k < 4) (hn : qN G < 300) (hr : rNew G k s o p b ob) : GI (gAddO G k s o p b ob) := by
  have hRI := GI.addR h hk hn hr
  obtain ⟨h1, h2, h3, h4, h5, h6, h7⟩ := h
  obtain ⟨r1, r2, r3, r4⟩ := hr
  have hob : qO G ≤ ob ∧ ob ≤ 40 := by omega
  have hne : ∀ i, i ≤ qN G → va_up (qR G) (qN G + 1) (s, k, vT (qD G k) + 1, o, p, b) i = qR G i := fun i hi => va_up_ne _ _ (by omega)
  have hse : va_up (qR G) (qN G + 1) (s, k, vT (qD G k) + 1, o, p, b) (qN G + 1) = (s, k, vT (qD G k) + 1, o, p, b) := va_up_self _ _ _
  -- the same with the row, before it is learnt
  have hmid : GI (qN G + 1, va_up (qR G) (qN G + 1) (s, k, vT (qD G k) + 1, o, p, b), ob, qD G) ∨ True := Or.inr trivial
  have hkf : ∀ k2, k2 < 4 → vK (qD G k2) (qN G + 1) = false := fun k2 hk2 => by
    cases hv : vK (qD G k2) (qN G + 1) with
    | false => rfl
    | true => have := ((h3 k2 hk2).1 _ hv).2; omega
  have hNIu : ∀ k2, k2 < 4 → NI (va_up (qR G) (qN G + 1) (s, k, vT (qD G k) + 1, o, p, b)) (qN G + 1) (qD G k2) := fun k2 hk2 => (h3 k2 hk2).up hne
  have hm : vM (qD G k) < qN G + 1 := by have := (h3 k hk).2.2.2.2.2; omega
  refine ⟨hRI, by show 1 ≤ ob ∧ ob ≤ 40; omega, fun k2 hk2 => ?_, fun k2 hk2 i hi1 hin hw => ?_, fun k2 hk2 => ⟨fun i hi => ?_, ?_⟩, fun i hi1 hin hs => ?_, fun o2 ho1 ho2 => ?_⟩
  · show NI _ (qN G + 1) (va_up (qD G) k _ k2)
    by_cases e : k2 = k
    · rw [e, va_up_self]; exact NI.lrn hRI (hNIu k hk) (by omega) (Nat.le_refl _) (hkf k hk) hm
    · rw [va_up_ne _ _ e]; exact hNIu k2 hk2
  · show vK (va_up (qD G) k _ k2) i = true
    have hin : i ≤ qN G + 1 := hin
    have hw : rW (va_up (qR G) (qN G + 1) (s, k, vT (qD G k) + 1, o, p, b) i) = k2 := hw
    by_cases ei : i = qN G + 1
    · rw [ei, hse] at hw
      have hw : k = k2 := hw
      rw [← hw, va_up_self, lrn_K, ei, va_up_self]
    · rw [hne i (by omega)] at hw
      have := h4 k2 hk2 i hi1 (by omega) hw
      by_cases e : k2 = k
      · rw [e, va_up_self, lrn_K, va_up_ne _ _ ei, ← e]; exact this
      · rw [va_up_ne _ _ e]; exact this
  · show rT (va_up (qR G) (qN G + 1) (s, k, vT (qD G k) + 1, o, p, b) i) ≤ vT (va_up (qD G) k _ k2)
    have hi : vK (va_up (qD G) k (Jvm.Pilot.CBinTreesLaw_law_r9096_40ec0f.lrn (va_up (qR G) (qN G + 1) (s, k, vT (qD G k) + 1, o, p, b)) (qD G k) (qN G + 1)) k2) i = true := hi
    by_cases e : k2 = k
    · rw [e, va_up_self, lrn_K] at hi
      rw [e, va_up_self, lrn_T, hse]
      by_cases ei : i = qN G + 1
      · rw [ei, hse]; exact Nat.le_max_right _ _
      · rw [va_up_ne _ _ ei] at hi
        have h8 := (h3 k hk).1 i hi
        rw [hne i h8.2]
        have := (h5 k hk).1 i hi
        omega
    · rw [va_up_ne _ _ e] at hi
      rw [va_up_ne _ _ e, hne i ((h3 k2 hk2).1 i hi).2]; exact (h5 k2 hk2).1 i hi
  · show vM (va_up (qD G) k _ k2) = knC (vK (va_up (qD G) k _ k2)) (qN G + 1)
    by_cases e : k2 = k
    · rw [e, va_up_self, lrn_M, lrn_K, knC_up (by omega) (Nat.le_refl _) (hkf k hk), knC_s, hkf k hk, (h5 k hk).2]; rfl
    · rw [va_up_ne _ _ e, knC_s, hkf k2 hk2, (h5 k2 hk2).2]; rfl
  · show rO (va_up (qR G) (qN G + 1) (s, k, vT (qD G k) + 1, o, p, b) i) < ob ∧ _
    have hin : i ≤ qN G + 1 := hin
    have hs : rS (va_up (qR G) (qN G + 1) (s, k, vT (qD G k) + 1, o, p, b) i) ≠ 4 := hs
    show rO (va_up (qR G) (qN G + 1) (s, k, vT (qD G k) + 1, o, p, b) i) < ob ∧ (∀ q, rP (va_up (qR G) (qN G + 1) (s, k, vT (qD G k) + 1, o, p, b) i) = some q → q < ob) ∧ ∀ q, rB (va_up (qR G) (qN G + 1) (s, k, vT (qD G k) + 1, o, p, b) i) = some q → q < ob
    by_cases ei : i = qN G + 1
    · rw [ei, hse] at hs ⊢
      obtain ⟨q1, q2, q3, q4, q5⟩ := r2 hs
      exact ⟨q2, q4, q5⟩
    · rw [hne i (by omega)] at hs ⊢
      obtain ⟨q1, q2, q3⟩ := h6 i hi1 (by omega) hs
      exact ⟨by omega, fun q e => by have := q2 q e; omega, fun q e => by have := q3 q e; omega⟩
  · have ho2 : o2 < ob := ho2
    by_cases ho : o2 < qO G
    · obtain ⟨i, i1, i2, i3, i4⟩ := h7 o2 ho1 ho
      refine ⟨i, i1, by show i ≤ qN G + 1; omega, ?_, ?_⟩
      · show rS (va_up (qR G) (qN G + 1) _ i) = 0
        rw [hne i i2]; exact i3
      · show rO (va_up (qR G) (qN G + 1) _ i) = o2
        rw [hne i i2]; exact i4
    · refine ⟨qN G + 1, by omega, Nat.le_refl _, ?_, ?_⟩
      · show rS (va_up (qR G) (qN G + 1) _ (qN G + 1)) = 0
        rw [hse]; show s = 0; omega
      · show rO (va_up (qR G) (qN G + 1) _ (qN G + 1)) = o2
        rw [hse]; show o = o2; omega
theorem unF_add (G : GS) (k s o : Nat) (p b : Option Nat) (ob i : Nat) : unF (gAddO G k s o p b ob) i = if s = 4 ∧ o = i then true else unF G i := by
  have hne : ∀ i, i ≤ qN G → va_up (qR G) (qN G + 1) (s, k, vT (qD G k) + 1, o, p, b) i = qR G i := fun i hi => va_up_ne _ _ (by omega)
  have hse : va_up (qR G) (qN G + 1) (s, k, vT (qD G k) + 1, o, p, b) (qN G + 1) = (s, k, vT (qD G k) + 1, o, p, b) := va_up_self _ _ _
  by_cases h : s = 4 ∧ o = i
  · rw [if_pos h]
    refine dm_t ⟨qN G + 1, by omega, Nat.le_refl _, ?_, ?_⟩
    · show rS (va_up (qR G) (qN G + 1) _ (qN G + 1)) = 4
      rw [hse]; exact h.1
    · show rO (va_up (qR G) (qN G + 1) _ (qN G + 1)) = i
      rw [hse]; exact h.2
  · rw [if_neg h]
    unfold unF
    congr 1
    apply propext
    constructor
    · rintro ⟨u, u1, u2, u3, u4⟩
      have u2 : u ≤ qN G + 1 := u2
      have u3 : rS (va_up (qR G) (qN G + 1) (s, k, vT (qD G k) + 1, o, p, b) u) = 4 := u3
      have u4 : rO (va_up (qR G) (qN G + 1) (s, k, vT (qD G k) + 1, o, p, b) u) = i := u4
      by_cases e : u = qN G + 1
      · rw [e, hse] at u3 u4; exact absurd ⟨u3, u4⟩ h
      · rw [hne u (by omega)] at u3 u4; exact ⟨u, u1, by omega, u3, u4⟩
    · rintro ⟨u, u1, u2, u3, u4⟩
      refine ⟨u, u1, by show u ≤ qN G + 1; omega, ?_, ?_⟩
      · show rS (va_up (qR G) (qN G + 1) _ u) = 4
        rw [hne u u2]; exact u3
      · show rO (va_up (qR G) (qN G + 1) _ u) = i
        rw [hne u u2]; exact u4
