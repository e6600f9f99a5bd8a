theorem nwO_sm {M : Mem} {q k o b : Nat} (h : b ≠ q) : Sm M (nwO M q k o) b := ⟨va_up_ne _ _ h, fun _ => if_neg h, fun _ => if_neg h, rfl, rfl, rfl, va_up_ne _ _ h⟩
theorem nwO_fr {M : Mem} {q k o : Nat} (h : kd M q = 0) : Fr (fun _ => False) M (nwO M q k o) := ⟨fun b hb => by
  have : b ≠ q := fun z => hb (by rw [z]; exact h)
  exact ⟨va_up_ne _ _ this, va_up_ne _ _ this⟩, fun b hb _ => nwO_sm (fun z => hb (by rw [z]; exact h))⟩
theorem nwA_fr {M : Mem} {q k n o : Nat} (h : kd M q = 0) : Fr (fun _ => False) M (nwA M q k n o) := ⟨fun b hb => by
  have : b ≠ q := fun z => hb (by rw [z]; exact h)
  exact ⟨va_up_ne _ _ this, va_up_ne _ _ this⟩, fun b hb _ => by
  have : b ≠ q := fun z => hb (by rw [z]; exact h)
  exact ⟨va_up_ne _ _ this, fun _ => rfl, fun _ => rfl, va_up_ne _ _ this, va_up_ne _ _ this, rfl, va_up_ne _ _ this⟩⟩
theorem nwR_fr {M : Mem} {q k n o : Nat} (h : kd M q = 0) : Fr (fun _ => False) M (nwR M q k n o) := ⟨fun b hb => by
  have : b ≠ q := fun z => hb (by rw [z]; exact h)
  exact ⟨va_up_ne _ _ this, va_up_ne _ _ this⟩, fun b hb _ => by
  have : b ≠ q := fun z => hb (by rw [z]; exact h)
  exact ⟨va_up_ne _ _ this, fun _ => rfl, fun _ => rfl, va_up_ne _ _ this, rfl, va_up_ne _ _ this, va_up_ne _ _ this⟩⟩
theorem c_Sinit (l : Launch) (Θ : Glob) (M : Mem) (q r : Nat) (hk : kd M q = 4) : Ct l Θ y_Sinit 2 0 0 [.ref q, .ref r] M (pV fun M1 => M1 = sR M 96 q (some r)) := by
  refine Ct.start (cc := b_Sinit) (nL := 2) (ret := none) [some (.ref q), some (.ref r)] mi_Sinit.1 (by decide +kernel) (by intro v hv; simp at hv; rcases hv with rfl | rfl <;> rfl) (by simp) rfl (fun p e s m args below meth c hC => ?_)
  refine r_aload_n hC 0 d_Sinit_0 rfl rfl ?_
  refine r_objInit hC rfl lk_S1 ob_in ob_co d_Sinit_1 (Nat.le_of_ble_eq_true rfl) (Nat.le_of_ble_eq_true rfl) ?_
  refine r_aload_n hC 0 d_Sinit_4 rfl rfl ?_
  refine r_aload_n hC 1 d_Sinit_5 rfl rfl ?_
  refine r_putFR hC 3 0 96 fl_S7 rfl rfl rfl (by exact hk) d_Sinit_6 (v := (some r)) rfl rfl ?_
  exact r_vret hC d_Sinit_9 (Nat.le_refl _) (Nat.le_refl _) ⟨rfl, rfl⟩
section NXt
variable {M N : Mem} {d : NdA} {R : Nat → RowT} {U : Nat → Bool} {sa ra : Nat → Nat} {cap : Nat} {ns l : List Nat} {cp : Nat → Nat} {Z : Nat → Prop}
theorem NX.sac {sb : Nat → Nat} (h : NX M d R U sa ra cap ns l cp) (hs : ∀ i ∈ ns, sb i = sa i) (hl : ∀ i ∈ l, i ∈ ns) : NX M d R U sb ra cap ns l cp := by
  obtain ⟨⟨h1, h2, h3, h4, h5, h6⟩, hP, hc, hS, hb, ho⟩ := h
  refine ⟨⟨h1, ?_, fun i hi => by rw [hs i hi]; exact h3 i hi, h4, fun i hi j hj e => h5 i hi j hj (by rw [← hs i hi, ← hs j hj]; exact e), h6⟩, hP, hc, fun pre i post e => ?_, hb, fun i hi => by rw [hs i hi]; exact ho i hi⟩
  · rw [List.map_congr_left hs]; exact h2
  · have hi : i ∈ l := by rw [e]; simp
    rw [hs i (hl i hi)]
    exact hS pre i post e
theorem NX.uc {V : Nat → Bool} (h : NX M d R U sa ra cap ns l cp) (hs : ∀ i ∈ ns, U i = V i) (hl : ∀ i ∈ l, i ∈ ns) : NX M d R V sa ra cap ns l cp := by
  obtain ⟨⟨h1, h2, h3, h4, h5, h6⟩, hP, hc, hS, hb, ho⟩ := h
  refine ⟨⟨h1, h2, fun i hi => by rw [← hs i hi]; exact h3 i hi, h4, h5, h6⟩, ?_, hc, hS.cong (fun i hi => hs i (hl i hi)), hb, ho⟩
  rw [← rn_cong (fun i hi => hs i (hl i hi))]
  exact hP
theorem NX.rc {Q : Nat → RowT} {rb : Nat → Nat} (h : NX M d R U sa ra cap ns l cp) (hs : ∀ i ∈ ns, R i = Q i) (hr : ∀ i ∈ ns, ra i = rb i) (hl : ∀ i ∈ l, i ∈ ns) : NX M d Q U sa rb cap ns l cp := by
  obtain ⟨⟨h1, h2, h3, h4, h5, h6⟩, hP, hc, hS, hb, ho⟩ := h
  refine ⟨⟨h1, h2, fun i hi => by rw [← hs i hi, ← hr i hi]; exact h3 i hi, h4, h5, h6⟩, ?_, hc, fun pre i post e => ?_, hb, ho⟩
  · rw [← rn_congR (fun i hi => hs i (hl i hi))]
    exact hP
  · have h7 := hS pre i post e
    rw [hs i (hl i (by rw [e]; simp)), rn_congR (Q := Q) (fun x hx => hs x (hl x (by rw [e]; simp [hx])))] at h7
    exact h7
theorem KZ.kind (h : NX M d R U sa ra cap ns l cp) {sb : Nat → Nat} {xs : List Nat} (hs : ∀ i ∈ xs, kd M (sb i) = 4) {x : Nat} (hx : KZ M d sb xs x) : kd M x = 2 ∨ kd M x = 7 ∨ kd M x = 4 ∨ kd M x = 5 ∨ 1000 ≤ kd M x := by
  rcases hx with (hx | ⟨i, hi, rfl⟩) | rfl | rfl | hx
  · have := PZ.kind h.2.1 hx; omega
  · have := hs i hi; omega
  · have := h.1.1.1; omega
  · have := h.1.2.1.1; omega
  · omega
end NXt
/-- known rows, undoing ones said -/
def KNo (M : Mem) (d : NdA) (kn : Nat → Bool) (sa : Nat → Nat) : Prop := kd M (nK d) = 24 ∧ ln M (nK d) = 301 ∧ ow M (nK d) = nG d ∧ ∀ i, i < 301 → eR M (nK d) i = if kn i = true then some (sa i) else none
def UDo (M : Mem) (d : NdA) (U : Nat → Bool) : Prop := kd M (nU d) = 21 ∧ ln M (nU d) = 301 ∧ ow M (nU d) = nG d ∧ ∀ i, i < 301 → eI M (nU d) i = b2i (U i)
theorem KNo.fr {Z : Nat → Prop} {M N : Mem} {d : NdA} {kn : Nat → Bool} {sa : Nat → Nat} (h : KNo M d kn sa) (hf : Fr Z M N) (hz : ¬ Z (nK d)) : KNo N d kn sa := by
  obtain ⟨h1, h2, h3, h4⟩ := h
  have q := hf.2 (nK d) (by omega) hz
  exact ⟨by rw [q.1, h1], by rw [q.2.2.2.1, h2], by rw [q.2.2.2.2.2.2, h3], fun i hi => by rw [q.2.2.2.2.2.1]; exact h4 i hi⟩
theorem UDo.fr {Z : Nat → Prop} {M N : Mem} {d : NdA} {U : Nat → Bool} (h : UDo M d U) (hf : Fr Z M N) (hz : ¬ Z (nU d)) : UDo N d U := by
  obtain ⟨h1, h2, h3, h4⟩ := h
  have q := hf.2 (nU d) (by omega) hz
  exact ⟨by rw [q.1, h1], by rw [q.2.2.2.1, h2], by rw [q.2.2.2.2.2.2, h3], fun i hi => by rw [q.2.2.2.2.1]; exact h4 i hi⟩
/-- the steps of known rows -/
def STo (M : Mem) (d : NdA) (kn : Nat → Bool) (sa ra : Nat → Nat) : Prop := (∀ i, kn i = true → i < 301 ∧ kd M (sa i) = 4 ∧ ow M (sa i) = nG d ∧ fR M 96 (sa i) = some (ra i)) ∧ ∀ i j, kn i = true → kn j = true → sa i = sa j → i = j
def ND (M : Mem) (d : NdA) (R : Nat → RowT) (ra sa : Nat → Nat) (kn U : Nat → Bool) (ns : List Nat) (cp : Nat → Nat) (mn tm co : Nat) : Prop :=
  NX M d R U sa ra (capL ns.length) ns ns cp ∧ KNo M d kn sa ∧ UDo M d U ∧ (fI M 134 (nT d) = nI mn ∧ fI M 135 (nT d) = nI tm ∧ fI M 136 (nT d) = nI co) ∧ STo M d kn sa ra ∧ ∀ i, i ∈ ns ↔ kn i = true ∧ rS (R i) ≠ 4
