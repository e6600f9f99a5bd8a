/-! the model's making: arrays made so far -/
def MI (M : Mem) (Y : Nat) (l : List (Nat × Nat)) : Prop :=
  (kd M Y = 6 ∧ ow M Y = 11) ∧ (∀ q, q ∈ l → fR M q.1 Y = some q.2 ∧ kd M q.2 = mKd q.1 ∧ ow M q.2 = 11 ∧ ln M q.2 = mLn q.1 ∧ ∀ j, eI M q.2 j = 0) ∧ ∀ q r, q ∈ l → r ∈ l → q.2 = r.2 → q = r
theorem MI.add {M : Mem} {Y : Nat} {l : List (Nat × Nat)} (h : MI M Y l) {f a : Nat} (ha : kd M a = 0) (hf : ∀ q, q ∈ l → q.1 ≠ f) : MI (sR (nwA M a (mKd f) (mLn f) 11) f Y (some a)) Y ((f, a) :: l) := by
  obtain ⟨⟨h1, h2⟩, h3, h4⟩ := h
  have hYa : Y ≠ a := fun z => by rw [z] at h1; omega
  have hne : ∀ q, q ∈ l → q.2 ≠ a := fun q hq z => by
    have := (h3 q hq).2.1
    have := mKd_k q.1
    rw [z] at *; omega
  refine ⟨⟨?_, ?_⟩, fun q hq => ?_, fun q r hq hr e => ?_⟩
  · show va_up (kd M) a _ Y = 6
    rw [va_up_ne _ _ hYa]; exact h1
  · show va_up (ow M) a _ Y = 11
    rw [va_up_ne _ _ hYa]; exact h2
  · rcases List.mem_cons.mp hq with rfl | hq
    · refine ⟨up2_self _ _ _ _, va_up_self _ _ _, va_up_self _ _ _, va_up_self _ _ _, fun j => ?_⟩
      show va_up (eI M) a _ a j = 0
      rw [va_up_self]
    · obtain ⟨a1, a2, a3, a4, a5⟩ := h3 q hq
      refine ⟨?_, ?_, ?_, ?_, fun j => ?_⟩
      · show up2 (fR M) f Y (some a) q.1 Y = _
        rw [up2_ne _ _ (fun z => hf q hq z.1)]; exact a1
      · show va_up (kd M) a _ q.2 = _
        rw [va_up_ne _ _ (hne q hq)]; exact a2
      · show va_up (ow M) a _ q.2 = _
        rw [va_up_ne _ _ (hne q hq)]; exact a3
      · show va_up (ln M) a _ q.2 = _
        rw [va_up_ne _ _ (hne q hq)]; exact a4
      · show va_up (eI M) a _ q.2 j = 0
        rw [va_up_ne _ _ (hne q hq)]; exact a5 j
  · rcases List.mem_cons.mp hq with rfl | hq
    · rcases List.mem_cons.mp hr with rfl | hr
      · rfl
      · exact absurd e.symm (hne r hr)
    · rcases List.mem_cons.mp hr with rfl | hr
      · exact absurd e (hne q hq)
      · exact h4 q r hq hr e
theorem MI.si {M : Mem} {Y : Nat} {l : List (Nat × Nat)} (h : MI M Y l) (f : Nat) (v : Int32) : MI (sI M f Y v) Y l := h
