/-! THE MODEL's memory: its arrays by field, its ints by field -/
def arF : List Nat := [162, 163, 164, 165, 166, 167, 169, 170, 171, 173, 174, 175, 176, 177, 178, 180, 182, 183, 184, 185]
def inF : List Nat := [160, 161, 168, 172, 179, 181]
def mKd (f : Nat) : Nat := if f = 169 ∨ f = 173 ∨ f = 185 then 21 else 20
def mLn (f : Nat) : Nat := if f = 169 then 1204 else if f = 170 ∨ f = 171 then 4 else if f = 173 ∨ f = 174 ∨ f = 175 ∨ f = 185 then 40 else if f = 176 ∨ f = 183 then 41 else if f = 177 ∨ f = 184 then 1640 else 301
def MV (M : Mem) (Y : Nat) (ar : Nat → Nat) (V : Nat → Nat → Int32) (I : Nat → Int32) : Prop :=
  (kd M Y = 6 ∧ ow M Y = 11) ∧ (∀ f, f ∈ arF → fR M f Y = some (ar f) ∧ kd M (ar f) = mKd f ∧ ow M (ar f) = 11 ∧ ln M (ar f) = mLn f) ∧ (∀ f g, f ∈ arF → g ∈ arF → ar f = ar g → f = g) ∧ (∀ f, f ∈ arF → ∀ j, eI M (ar f) j = V f j) ∧ ∀ f, f ∈ inF → fI M f Y = I f
/-- what the model touches -/
def MZ (M : Mem) : Nat → Prop := fun b => ow M b = 11 ∧ (kd M b = 6 ∨ kd M b = 20 ∨ kd M b = 21)
theorem MZ.old {Z : Nat → Prop} {M N : Mem} (h : Fr Z M N) : ∀ b, kd M b ≠ 0 → MZ N b → MZ M b := by
  intro b hb hz
  unfold MZ at hz ⊢
  rw [(h.1 b hb).1, (h.1 b hb).2] at hz
  exact hz
theorem MZ.lb (M : Mem) {g : Nat} (hg : g ≠ 11) : For M g (MZ M) := ⟨fun b z _ => by rw [z.1]; exact Ne.symm hg, fun b a z h1 _ => by have := z.2; omega, fun b z => by have := z.2; omega⟩
section MVs
variable {M N : Mem} {Y : Nat} {ar : Nat → Nat} {V : Nat → Nat → Int32} {I : Nat → Int32}
theorem MV.k (h : MV M Y ar V I) : kd M Y = 6 := h.1.1
theorem MV.rf (h : MV M Y ar V I) (f : Nat) (hf : f ∈ arF) : fR M f Y = some (ar f) := (h.2.1 f hf).1
theorem MV.ak (h : MV M Y ar V I) (f : Nat) (hf : f ∈ arF) : kd M (ar f) = mKd f := (h.2.1 f hf).2.1
theorem MV.al (h : MV M Y ar V I) (f : Nat) (hf : f ∈ arF) : ln M (ar f) = mLn f := (h.2.1 f hf).2.2.2
theorem MV.el (h : MV M Y ar V I) (f : Nat) (hf : f ∈ arF) (j : Nat) : eI M (ar f) j = V f j := h.2.2.2.1 f hf j
theorem MV.fi (h : MV M Y ar V I) (f : Nat) (hf : f ∈ inF) : fI M f Y = I f := h.2.2.2.2 f hf
theorem mKd_k (f : Nat) : mKd f = 20 ∨ mKd f = 21 := by unfold mKd; split <;> omega
theorem MV.st (h : MV M Y ar V I) (f : Nat) (hf : f ∈ arF) (i : Nat) (v : Int32) : MV (sEI M (ar f) i v) Y ar (up2 V f i v) I ∧ Fr (MZ M) M (sEI M (ar f) i v) := by
  obtain ⟨h1, h2, h3, h4, h5⟩ := h
  refine ⟨⟨h1, h2, h3, fun g hg j => ?_, h5⟩, (sEI_fr M (ar f) i v).mono fun b _ z => ?_⟩
  · show up2 (eI M) (ar f) i v (ar g) j = up2 V f i v g j
    by_cases e : g = f ∧ j = i
    · rw [e.1, e.2, up2_self, up2_self]
    · rw [up2_ne _ _ e, up2_ne _ _ (fun z => e ⟨h3 g f hg hf z.1, z.2⟩)]
      exact h4 g hg j
  · have z : b = ar f := z
    have := mKd_k f
    rw [z]
    exact ⟨(h2 f hf).2.2.1, by rw [(h2 f hf).2.1]; omega⟩
theorem MV.si (h : MV M Y ar V I) (f : Nat) (hf : f ∈ inF) (v : Int32) : MV (sI M f Y v) Y ar V (va_up I f v) ∧ Fr (MZ M) M (sI M f Y v) := by
  obtain ⟨h1, h2, h3, h4, h5⟩ := h
  refine ⟨⟨h1, h2, h3, h4, fun g hg => ?_⟩, (sI_fr M f Y v).mono fun b _ z => ?_⟩
  · show up2 (fI M) f Y v g Y = va_up I f v g
    by_cases e : g = f
    · rw [e, up2_self, va_up_self]
    · rw [up2_ne _ _ (fun z => e z.1), va_up_ne _ _ e]; exact h5 g hg
  · have z : b = Y := z
    rw [z]
    exact ⟨h1.2, Or.inl h1.1⟩
theorem MV.fr {Z : Nat → Prop} (h : MV M Y ar V I) (hf : Fr Z M N) (hz : ∀ b, kd M b ≠ 0 → Z b → kd M b < 1000 → ow M b ≠ 11) : MV N Y ar V I := by
  obtain ⟨h1, h2, h3, h4, h5⟩ := h
  have qY := hf.2 Y (by omega) (fun z => hz Y (by omega) z (by omega) h1.2)
  have qA : ∀ f, f ∈ arF → Sm M N (ar f) := fun f hfa => by
    have e := (h2 f hfa).2.1
    have := mKd_k f
    exact hf.2 _ (by omega) (fun z => hz _ (by omega) z (by omega) (h2 f hfa).2.2.1)
  exact ⟨⟨qY.1.trans h1.1, qY.2.2.2.2.2.2.trans h1.2⟩, fun f hfa => ⟨(qY.2.2.1 f).trans (h2 f hfa).1, (qA f hfa).1.trans (h2 f hfa).2.1, (qA f hfa).2.2.2.2.2.2.trans (h2 f hfa).2.2.1, (qA f hfa).2.2.2.1.trans (h2 f hfa).2.2.2⟩, h3, fun f hfa j => by rw [(qA f hfa).2.2.2.2.1]; exact h4 f hfa j, fun f hfi => (qY.2.1 f).trans (h5 f hfi)⟩
end MVs
