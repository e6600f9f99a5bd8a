/-! rows that another knows, in order -/
def insN (R : Nat → RowT) (j : Nat) (xs : List Nat) : List Nat := xs.take (plc R j xs) ++ j :: xs.drop (plc R j xs)
theorem insN_len (R : Nat → RowT) (j : Nat) (xs : List Nat) : (insN R j xs).length = xs.length + 1 := ins_len R j xs
theorem insN_mem (R : Nat → RowT) (j : Nat) (xs : List Nat) (i : Nat) : i ∈ insN R j xs ↔ i = j ∨ i ∈ xs := ins_memN R j xs i
theorem srt_ins {R : Nat → RowT} {xs : List Nat} {j : Nat} (h : srt R xs) (hk : ∀ a ∈ xs, rT (R a) = rT (R j) → rW (R a) = rW (R j) → False) : srt R (insN R j xs) ∧ (∀ i a, i < plc R j xs → xs[i]? = some a → bef (R j) (R a) = false) ∧ ∀ i a, plc R j xs ≤ i → xs[i]? = some a → bef (R j) (R a) = true := by
  have hp : (xs.take (plc R j xs) ++ xs.drop (plc R j xs)).Pairwise (fun a b => befP (R a) (R b)) := by rw [List.take_append_drop]; exact h
  obtain ⟨tw1, tw2⟩ := h.tw j
  rw [List.pairwise_append] at hp
  have hA : ∀ i a, i < plc R j xs → xs[i]? = some a → befP (R a) (R j) := fun i a hi ha => bef_iff.mp (tw1 i a hi ha)
  have hB : ∀ i a, plc R j xs ≤ i → xs[i]? = some a → befP (R j) (R a) := fun i a hi ha => by
    have ham : a ∈ xs := List.mem_of_getElem? ha
    have hf := bef_f.mp (tw2 i a hi ha)
    have hu := hk a ham
    unfold befP at hf ⊢
    rcases Nat.lt_trichotomy (rT (R j)) (rT (R a)) with z | z | z
    · exact Or.inl z
    · rcases Nat.lt_trichotomy (rW (R j)) (rW (R a)) with y | y | y
      · exact Or.inr ⟨z, y⟩
      · exact (hu z.symm y.symm).elim
      · exact absurd (Or.inr ⟨z.symm, y⟩) hf
    · exact absurd (Or.inl z) hf
  refine ⟨?_, fun i a hi ha => bef_f.mpr (fun z => (hA i a hi ha).asym z), fun i a hi ha => bef_iff.mpr (hB i a hi ha)⟩
  have hA2 : ∀ a ∈ xs.take (plc R j xs), befP (R a) (R j) := fun a ha => by
    obtain ⟨i, hi, hia⟩ := List.getElem_of_mem ha
    rw [List.length_take] at hi
    exact hA i a (by omega) (by rw [← hia, List.getElem_take]; exact List.getElem?_eq_getElem (by omega))
  have hB2 : ∀ a ∈ xs.drop (plc R j xs), befP (R j) (R a) := fun a ha => by
    obtain ⟨i, hi, hia⟩ := List.getElem_of_mem ha
    rw [List.length_drop] at hi
    exact hB (plc R j xs + i) a (by omega) (by rw [← hia, List.getElem_drop]; exact List.getElem?_eq_getElem (by omega))
  refine List.pairwise_append.mpr ⟨hp.1, List.pairwise_cons.mpr ⟨hB2, hp.2.1⟩, fun a ha b hb => ?_⟩
  rcases List.mem_cons.mp hb with rfl | hb
  · exact hA2 a ha
  · exact hp.2.2 a ha b hb
/-- the rows up to i with P, in order -/
def lkL (R : Nat → RowT) (P : Nat → Bool) : Nat → List Nat
  | 0 => []
  | i + 1 => if P (i + 1) = true then insN R (i + 1) (lkL R P i) else lkL R P i
theorem lkL_mem (R : Nat → RowT) (P : Nat → Bool) (i x : Nat) : x ∈ lkL R P i ↔ 1 ≤ x ∧ x ≤ i ∧ P x = true := by
  induction i with
  | zero => simp [lkL]; omega
  | succ i ih =>
    unfold lkL
    split
    · next h =>
      rw [insN_mem, ih]
      constructor
      · rintro (z | z)
        · rw [z]; exact ⟨by omega, by omega, h⟩
        · exact ⟨z.1, by omega, z.2.2⟩
      · rintro ⟨z1, z2, z3⟩
        by_cases e : x = i + 1
        · exact Or.inl e
        · exact Or.inr ⟨z1, by omega, z3⟩
    · next h =>
      rw [ih]
      constructor
      · rintro ⟨z1, z2, z3⟩; exact ⟨z1, by omega, z3⟩
      · rintro ⟨z1, z2, z3⟩
        by_cases e : x = i + 1
        · rw [e] at z3; exact absurd z3 h
        · exact ⟨z1, by omega, z3⟩
theorem lkL_key {R : Nat → RowT} {n : Nat} (hR : RI R n) (P : Nat → Bool) {i : Nat} (hi : i + 1 ≤ n) : ∀ a ∈ lkL R P i, rT (R a) = rT (R (i + 1)) → rW (R a) = rW (R (i + 1)) → False := fun a ha e1 e2 => by
  have h := (lkL_mem R P i a).mp ha
  have := hR.2.2.2.2.1 a (i + 1) h.1 (by omega) (by omega) hi e1 e2
  omega
theorem lkL_srt {R : Nat → RowT} {n : Nat} (hR : RI R n) (P : Nat → Bool) : ∀ i, i ≤ n → srt R (lkL R P i)
  | 0, _ => List.Pairwise.nil
  | i + 1, hi => by
    have ih := lkL_srt hR P i (by omega)
    unfold lkL
    split
    · exact (srt_ins ih (lkL_key hR P hi)).1
    · exact ih
theorem lkL_len (R : Nat → RowT) (P : Nat → Bool) : ∀ i, (lkL R P i).length ≤ i
  | 0 => Nat.le_refl _
  | i + 1 => by
    have ih := lkL_len R P i
    unfold lkL
    split
    · rw [insN_len]; omega
    · omega
/-- sorted lists with the same elements are the same -/
theorem srt_uni {R : Nat → RowT} : ∀ {xs ys : List Nat}, srt R xs → srt R ys → (∀ i, i ∈ xs ↔ i ∈ ys) → xs = ys
  | [], [], _, _, _ => rfl
  | [], b :: ys, _, _, h => by have := (h b).mpr List.mem_cons_self; cases this
  | a :: xs, [], _, _, h => by have := (h a).mp List.mem_cons_self; cases this
  | a :: xs, b :: ys, h1, h2, h => by
    obtain ⟨h1a, h1b⟩ := List.pairwise_cons.mp h1
    obtain ⟨h2a, h2b⟩ := List.pairwise_cons.mp h2
    have hab : a = b := by
      rcases List.mem_cons.mp ((h a).mp List.mem_cons_self) with z | z
      · exact z
      · rcases List.mem_cons.mp ((h b).mpr List.mem_cons_self) with w | w
        · exact w.symm
        · exact ((h2a a z).asym (h1a b w)).elim
    subst hab
    have : xs = ys := srt_uni h1b h2b (fun i => by
      constructor
      · intro hi
        rcases List.mem_cons.mp ((h i).mp (List.mem_cons_of_mem _ hi)) with z | z
        · rw [z] at hi; exact (befP.irr (h1a a hi)).elim
        · exact z
      · intro hi
        rcases List.mem_cons.mp ((h i).mpr (List.mem_cons_of_mem _ hi)) with z | z
        · rw [z] at hi; exact (befP.irr (h2a a hi)).elim
        · exact z)
    rw [this]
/-- many rows learnt -/
noncomputable def gLs (G : GS) (k : Nat) : List Nat → GS
  | [] => G
  | j :: l => gLs (gLrn G k j) k l
/-- rows that a node may learn -/
def lsOk (G : GS) (k : Nat) (xs : List Nat) : Prop := xs.Nodup ∧ ∀ j ∈ xs, 1 ≤ j ∧ j ≤ qN G ∧ vK (qD G k) j = false
theorem lsOk.next {G : GS} {k j : Nat} {l : List Nat} (h : lsOk G k (j :: l)) : lsOk (gLrn G k j) k l := by
  obtain ⟨h1, h2⟩ := h
  obtain ⟨h1a, h1b⟩ := List.nodup_cons.mp h1
  refine ⟨h1b, fun i hi => ?_⟩
  obtain ⟨a, b, c⟩ := h2 i (List.mem_cons_of_mem _ hi)
  refine ⟨a, b, ?_⟩
  show vK (va_up (qD G) k _ k) i = false
  rw [va_up_self, lrn_K, va_up_ne _ _ (fun e => by rw [e] at hi; exact h1a hi)]
  exact c
theorem GI.ls {k : Nat} (hk : k < 4) : ∀ (xs : List Nat) {G : GS}, GI G → lsOk G k xs → GI (gLs G k xs)
  | [], _, h, _ => h
  | j :: l, G, h, ho => by
    obtain ⟨a, b, c⟩ := ho.2 j List.mem_cons_self
    exact GI.ls hk l (h.lrn hk a b c) ho.next
/-- what node k learns of o -/
def mtP (G : GS) (k o : Nat) (i : Nat) : Bool := vK (qD G o) i && !vK (qD G k) i
def mtL (G : GS) (k o : Nat) : List Nat := lkL (qR G) (mtP G k o) (qN G)
theorem mtL_ok {G : GS} (h : GI G) (k o : Nat) : lsOk G k (mtL G k o) := by
  refine ⟨(lkL_srt h.1 _ _ (Nat.le_refl _)).nd, fun j hj => ?_⟩
  obtain ⟨a, b, c⟩ := (lkL_mem _ _ _ _).mp hj
  unfold mtP at c
  rw [Bool.and_eq_true] at c
  exact ⟨a, b, by simpa using c.2⟩
noncomputable def aMeet (G : GS) (x y : Int32) : Int32 × GS := match ix 4 x, ix 4 y with
  | some k, some o => if k = o then (-1, G) else (nI (mtL G k o).length, gLs G k (mtL G k o))
  | _, _ => (-1, G)
