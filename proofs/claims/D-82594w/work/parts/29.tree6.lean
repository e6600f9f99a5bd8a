theorem c_RisBefore (l : Launch) (Θ : Glob) (M : Mem) (r1 r2 n1 n2 : Nat) (w1 w2 : RowT) (h1 : RwO M r1 n1 w1) (h2 : RwO M r2 n2 w2) (b1 : rT w1 < 2 ^ 30) (b2 : rT w2 < 2 ^ 30) (b3 : rW w1 < 2 ^ 30) (b4 : rW w2 < 2 ^ 30) : Ct l Θ y_RisBefore 1 0 0 [.ref r1, .ref r2] M (pI fun r M1 => r = b2i (bef w1 w2) ∧ M1 = M) := by
  have k1 := h1.1
  have k2 := h2.1
  have t1 := h1.2.2.2.1
  have t2 := h2.2.2.2.1
  have w1' := h1.2.2.1
  have w2' := h2.2.2.1
  refine Ct.start (cc := b_RisBefore) (nL := 2) (ret := (some .boolean)) [some (.ref r1), some (.ref r2)] mi_RisBefore.1 (by decide +kernel) (by intro v hv; simp at hv; rcases hv with rfl | rfl <;> rfl) (by simp) rfl (fun p e s m args below meth c hC => ?_)
  refine r_aload_n hC 0 d_RisBefore_0 rfl rfl ?_
  refine r_getI hC 2 2 66 fl_R16 (by exact k1) d_RisBefore_1 rfl rfl (by exact t1) ?_
  refine r_aload_n hC 1 d_RisBefore_4 rfl rfl ?_
  refine r_getI hC 2 2 66 fl_R16 (by exact k2) d_RisBefore_5 rfl rfl (by exact t2) ?_
  refine r_icmp_eq hC 30 d_RisBefore_8 (by decide) (fun z => ?_) (fun z => ?_)
  · have e : rT w1 = rT w2 := (nI_eq (by omega) (by omega)).mp z
    refine r_aload_n hC 0 d_RisBefore_30 rfl rfl ?_
    refine r_getI hC 2 1 65 fl_R13 (by exact k1) d_RisBefore_31 rfl rfl (by exact w1') ?_
    refine r_aload_n hC 1 d_RisBefore_34 rfl rfl ?_
    refine r_getI hC 2 1 65 fl_R13 (by exact k2) d_RisBefore_35 rfl rfl (by exact w2') ?_
    refine r_icmp_ge hC 45 d_RisBefore_38 (by decide) (fun z2 => ?_) (fun z2 => ?_)
    · have e2 : ¬ rW w1 < rW w2 := fun q => absurd z2 (nI_ge q (by omega))
      refine r_iconst hC 0 d_RisBefore_45 (by decide) ?_
      exact r_zret hC d_RisBefore_46 (Or.inl rfl) (Nat.le_refl _) (Nat.le_refl _) ⟨_, rfl, by rw [bef_f.mpr (by unfold befP; omega)]; rfl, rfl⟩
    · have e2 : rW w1 < rW w2 := by
        rcases Nat.lt_or_ge (rW w1) (rW w2) with q | q
        · exact q
        · exact absurd (nI_le q (by omega)) z2
      refine r_iconst hC 1 d_RisBefore_41 (by decide) ?_
      refine r_goto hC 46 d_RisBefore_42 (by decide) ?_
      exact r_zret hC d_RisBefore_46 (Or.inr rfl) (Nat.le_refl _) (Nat.le_refl _) ⟨_, rfl, by rw [bef_iff.mpr (by unfold befP; omega)]; rfl, rfl⟩
  · have e : rT w1 ≠ rT w2 := fun q => z (by rw [q])
    refine r_aload_n hC 0 d_RisBefore_11 rfl rfl ?_
    refine r_getI hC 2 2 66 fl_R16 (by exact k1) d_RisBefore_12 rfl rfl (by exact t1) ?_
    refine r_aload_n hC 1 d_RisBefore_15 rfl rfl ?_
    refine r_getI hC 2 2 66 fl_R16 (by exact k2) d_RisBefore_16 rfl rfl (by exact t2) ?_
    refine r_icmp_ge hC 26 d_RisBefore_19 (by decide) (fun z2 => ?_) (fun z2 => ?_)
    · have e2 : ¬ rT w1 < rT w2 := fun q => absurd z2 (nI_ge q (by omega))
      refine r_iconst hC 0 d_RisBefore_26 (by decide) ?_
      refine r_goto hC 46 d_RisBefore_27 (by decide) ?_
      exact r_zret hC d_RisBefore_46 (Or.inl rfl) (Nat.le_refl _) (Nat.le_refl _) ⟨_, rfl, by rw [bef_f.mpr (by unfold befP; omega)]; rfl, rfl⟩
    · have e2 : rT w1 < rT w2 := by
        rcases Nat.lt_or_ge (rT w1) (rT w2) with q | q
        · exact q
        · exact absurd (nI_le q (by omega)) z2
      refine r_iconst hC 1 d_RisBefore_22 (by decide) ?_
      refine r_goto hC 46 d_RisBefore_23 (by decide) ?_
      exact r_zret hC d_RisBefore_46 (Or.inr rfl) (Nat.le_refl _) (Nat.le_refl _) ⟨_, rfl, by rw [bef_iff.mpr (by unfold befP; omega)]; rfl, rfl⟩
/-! A NODE: its cells -/
abbrev NdA : Type := Nat × Nat × Nat × Nat × Nat × Nat × (Nat → Nat) × (Nat → Nat)
abbrev nG (d : NdA) : Nat := d.1
abbrev nT (d : NdA) : Nat := d.2.1
abbrev nP (d : NdA) : Nat := d.2.2.1
abbrev nL (d : NdA) : Nat := d.2.2.2.1
abbrev nK (d : NdA) : Nat := d.2.2.2.2.1
abbrev nU (d : NdA) : Nat := d.2.2.2.2.2.1
abbrev nA (d : NdA) : Nat → Nat := d.2.2.2.2.2.2.1
abbrev nC (d : NdA) : Nat → Nat := d.2.2.2.2.2.2.2
/-- a step's own: its row, whether it is undone -/
def StS (M : Mem) (s rr n : Nat) (w : RowT) (u : Bool) : Prop := kd M s = 4 ∧ fR M 96 s = some rr ∧ fI M 97 s = b2i u ∧ RwO M rr n w
theorem StS.fr {Z : Nat → Prop} {M N : Mem} {s rr n : Nat} {w : RowT} {u : Bool} (h : StS M s rr n w u) (hf : Fr Z M N) (h1 : ¬ Z s) (h2 : ¬ Z rr) : StS N s rr n w u := by
  obtain ⟨a1, a2, a3, a4⟩ := h
  have q := hf.2 s (by omega) h1
  exact ⟨by rw [q.1, a1], by rw [q.2.2.1, a2], by rw [q.2.1, a3], a4.fr hf h2⟩
/-- the tree object, its steps' list, the steps -/
def NB (M : Mem) (d : NdA) (R : Nat → RowT) (U : Nat → Bool) (sa ra : Nat → Nat) (cap : Nat) (ns : List Nat) : Prop :=
  TrO M (nT d) (nP d) (nL d) (nK d) (nU d) (nA d) ∧ Lst M (nL d) (ns.map sa) cap ∧ (∀ i ∈ ns, StS M (sa i) (ra i) i (R i) (U i)) ∧ (∀ o, o ≤ 40 → nC d o ≠ nL d) ∧ (∀ i ∈ ns, ∀ j ∈ ns, sa i = sa j → i = j) ∧ ns.length ≤ 300
theorem NB.okk {M : Mem} {d : NdA} {R : Nat → RowT} {U : Nat → Bool} {sa ra : Nat → Nat} {cap : Nat} {ns : List Nat} (h : NB M d R U sa ra cap ns) : ∀ z ∈ ns.map sa, okO M z := fun z hz => by
  obtain ⟨i, hi, rfl⟩ := List.mem_map.mp hz
  exact ⟨3, (h.2.2.1 i hi).1, as_23⟩
/-- the places of other kinds stay the node's when places change -/
theorem NB.pz {M N : Mem} {d : NdA} {R : Nat → RowT} {U : Nat → Bool} {sa ra : Nat → Nat} {cap : Nat} {ns : List Nat} {S : TS} {cp : Nat → Nat} (h : NB M d R U sa ra cap ns) (hP : PA M (nA d) (nC d) S cp) (hf : Fr (PZ M (nA d) (nC d)) M N) : NB N d R U sa ra cap ns := by
  obtain ⟨h1, h2, h3, h4, h5, h6⟩ := h
  refine ⟨h1.fr hf (PZ.not hP h1.1 (by omega)) (PZ.not hP h1.2.2.2.2.2.2.1 (by omega)), h2.fr (hf.2 _ (by have := h2.1; omega) ?_) (fun q hq => hf.2 q (by omega) ?_) (fun q hq => hf.2 q (by omega) ?_), fun i hi => (h3 i hi).fr hf (PZ.not hP (h3 i hi).1 (by omega)) (PZ.not hP (h3 i hi).2.2.2.1 (by omega)), h4, h5, h6⟩
  · rintro ⟨o, ho, z | z | z⟩
    · have := hP.kp ho; rw [← z] at this; have := h2.1; omega
    · exact h4 o ho z.symm
    · have := h2.1; omega
  · rintro ⟨o, ho, z | z | z⟩
    · have := hP.kp ho; rw [← z] at this; omega
    · have := hP.kl ho; rw [← z] at this; omega
    · have := h4 o ho; omega
  · rintro ⟨o, ho, z | z | z⟩
    · have := hP.kp ho; rw [← z] at this; omega
    · have := hP.kl ho; rw [← z] at this; omega
    · omega
/-- .. and when a step of it goes -/
theorem NB.gz {M N : Mem} {d : NdA} {R : Nat → RowT} {U : Nat → Bool} {sa ra : Nat → Nat} {cap : Nat} {ns : List Nat} {S : TS} {cp : Nat → Nat} {i : Nat} (h : NB M d R U sa ra cap ns) (hP : PA M (nA d) (nC d) S cp) (hi : i ∈ ns) (hf : Fr (GZ M (nA d) (nC d) (sa i)) M N) (hk : StK M N (sa i)) : NB N d R U sa ra cap ns := by
  obtain ⟨h1, h2, h3, h4, h5, h6⟩ := h
  have hsi := (h3 i hi).1
  have ne : ∀ x, kd M x ≠ 4 → ¬ PZ M (nA d) (nC d) x → ¬ GZ M (nA d) (nC d) (sa i) x := fun x hx hz z => by
    rcases z with z | z
    · exact hz z
    · rw [z] at hx; exact hx hsi
  refine ⟨h1.fr hf (ne _ (by rw [h1.1]; omega) (PZ.not hP h1.1 (by omega))) (ne _ (by rw [h1.2.2.2.2.2.2.1]; omega) (PZ.not hP h1.2.2.2.2.2.2.1 (by omega))), h2.fr (hf.2 _ (by have := h2.1; omega) (ne _ (by have := h2.1; omega) ?_)) (fun q hq => hf.2 q (by omega) (ne _ (by omega) ?_)) (fun q hq => hf.2 q (by omega) (ne _ (by omega) ?_)), fun j hj => ?_, h4, h5, h6⟩
  · rintro ⟨o, ho, z | z | z⟩
    · have := hP.kp ho; rw [← z] at this; have := h2.1; omega
    · exact h4 o ho z.symm
    · have := h2.1; omega
  · rintro ⟨o, ho, z | z | z⟩
    · have := hP.kp ho; rw [← z] at this; omega
    · have := hP.kl ho; rw [← z] at this; omega
    · have := h4 o ho; omega
  · rintro ⟨o, ho, z | z | z⟩
    · have := hP.kp ho; rw [← z] at this; omega
    · have := hP.kl ho; rw [← z] at this; omega
    · omega
  · by_cases hji : j = i
    · subst hji
      obtain ⟨a1, a2, a3, a4⟩ := h3 j hj
      exact ⟨hf.k a1, hk.1.trans a2, hk.2.trans a3, a4.fr hf (ne _ (by rw [a4.1]; omega) (PZ.not hP a4.1 (by omega)))⟩
    · have hj1 := (h3 j hj).1
      have hj2 := (h3 j hj).2.2.2.1
      exact (h3 j hj).fr hf (fun z => by
        rcases z with z | z
        · exact PZ.not hP hj1 (by omega) z
        · exact hji (h5 j hj i hi z)) (ne _ (by omega) (PZ.not hP hj2 (by omega)))
/-- the first rows of ns are as a step keeps them -/
def SD (M : Mem) (pa : Nat → Nat) (R : Nat → RowT) (U : Nat → Bool) (sa : Nat → Nat) (l : List Nat) : Prop := ∀ pre i post, l = pre ++ i :: post → Sti M pa (sa i) (gR (U i) (rn R U tS0 pre) (R i)).2 (rn R U tS0 pre) (rO (R i))
theorem SD.init {M : Mem} {pa : Nat → Nat} {R : Nat → RowT} {U : Nat → Bool} {sa : Nat → Nat} {l l2 : List Nat} (h : SD M pa R U sa (l ++ l2)) : SD M pa R U sa l := fun pre i post e => h pre i (post ++ l2) (by rw [e]; simp)
theorem SD.fr {Z : Nat → Prop} {M N : Mem} {pa : Nat → Nat} {R : Nat → RowT} {U : Nat → Bool} {sa : Nat → Nat} {l : List Nat} (h : SD M pa R U sa l) (hf : Fr Z M N) (hz : ∀ i ∈ l, ¬ Z (sa i)) : SD N pa R U sa l := fun pre i post e => (h pre i post e).fr hf (hz i (by rw [e]; simp))
theorem SD.snoc {M : Mem} {pa : Nat → Nat} {R : Nat → RowT} {U : Nat → Bool} {sa : Nat → Nat} {l : List Nat} {i : Nat} (h : SD M pa R U sa l) (hi : Sti M pa (sa i) (gR (U i) (rn R U tS0 l) (R i)).2 (rn R U tS0 l) (rO (R i))) : SD M pa R U sa (l ++ [i]) := by
  intro pre j post e
  rcases List.eq_nil_or_concat post with hp | ⟨post2, x, hp⟩
  · subst hp
    have e2 := List.append_inj' e rfl
    obtain ⟨rfl, e3⟩ := e2
    cases e3
    exact hi
  · subst hp
    have e1 : l ++ [i] = (pre ++ j :: post2) ++ [x] := by rw [e]; simp
    have e2 := List.append_inj' e1 rfl
    exact h pre j post2 e2.1
theorem SD.nil {M : Mem} {pa : Nat → Nat} {R : Nat → RowT} {U : Nat → Bool} {sa : Nat → Nat} : SD M pa R U sa [] := fun pre i post e => by simp at e
theorem SD.cong {M : Mem} {pa : Nat → Nat} {R : Nat → RowT} {U V : Nat → Bool} {sa : Nat → Nat} {l : List Nat} (h : SD M pa R U sa l) (hv : ∀ i ∈ l, U i = V i) : SD M pa R V sa l := fun pre i post e => by
  have h1 := h pre i post e
  rw [hv i (by rw [e]; simp), rn_cong (V := V) (fun j hj => hv j (by rw [e]; simp [hj]))] at h1
  exact h1
theorem tw_spec {f : Nat → Bool} {l : List Nat} (hs : ∀ (a b : Nat) (x y : Nat), a < b → l[a]? = some x → l[b]? = some y → f y = true → f x = true) : (∀ i x, i < (l.takeWhile f).length → l[i]? = some x → f x = true) ∧ ∀ i x, (l.takeWhile f).length ≤ i → l[i]? = some x → f x = false := by
  induction l with
  | nil => exact ⟨fun i x _ h => by simp at h, fun i x _ h => by simp at h⟩
  | cons c l ih =>
    have hs2 : ∀ (a b : Nat) (x y : Nat), a < b → l[a]? = some x → l[b]? = some y → f y = true → f x = true := fun a b x y hab hx hy => hs (a + 1) (b + 1) x y (by omega) (by simpa using hx) (by simpa using hy)
    by_cases hc : f c = true
    · rw [List.takeWhile_cons_of_pos hc]
      obtain ⟨h1, h2⟩ := ih hs2
      refine ⟨fun i x hi hx => ?_, fun i x hi hx => ?_⟩
      · cases i with
        | zero => simp at hx; rw [← hx]; exact hc
        | succ i => exact h1 i x (by simpa using hi) (by simpa using hx)
      · cases i with
        | zero => simp at hi
        | succ i => exact h2 i x (by simpa using hi) (by simpa using hx)
    · rw [List.takeWhile_cons_of_neg hc]
      refine ⟨fun i x hi _ => by simp at hi, fun i x _ hx => ?_⟩
      cases i with
      | zero => simp at hx; rw [← hx]; simpa using hc
      | succ i =>
        cases hfx : f x with
        | false => rfl
        | true => exact absurd (hs 0 (i + 1) c x (by omega) (by simp) hx hfx) hc
theorem tw_le {f : Nat → Bool} {l : List Nat} : (l.takeWhile f).length ≤ l.length := (List.takeWhile_sublist f).length_le
/-- where row j comes among ns -/
def plc (R : Nat → RowT) (j : Nat) (ns : List Nat) : Nat := (ns.takeWhile (fun i => bef (R i) (R j))).length
def srt (R : Nat → RowT) (ns : List Nat) : Prop := ns.Pairwise (fun a b => befP (R a) (R b))
theorem srt.tw {R : Nat → RowT} {ns : List Nat} (h : srt R ns) (j : Nat) : (∀ i x, i < plc R j ns → ns[i]? = some x → bef (R x) (R j) = true) ∧ ∀ i x, plc R j ns ≤ i → ns[i]? = some x → bef (R x) (R j) = false := by
  refine tw_spec (fun a b x y hab hx hy hf => ?_)
  have hp := List.pairwise_iff_getElem.mp h
  obtain ⟨ha, rfl⟩ := List.getElem?_eq_some_iff.mp hx
  obtain ⟨hb, rfl⟩ := List.getElem?_eq_some_iff.mp hy
  exact bef_iff.mpr ((hp a b ha hb hab).trans (bef_iff.mp hf))
theorem c_TplaceOf (l : Launch) (Θ : Glob) (M : Mem) (d : NdA) (R : Nat → RowT) (U : Nat → Bool) (sa ra : Nat → Nat) (cap : Nat) (ns : List Nat) (hN : NB M d R U sa ra cap ns) (hsr : srt R ns) (j rj nj : Nat) (hj : RwO M rj nj (R j)) (hb : ∀ i, rT (R i) < 2 ^ 30 ∧ rW (R i) < 2 ^ 30) : Ct l Θ y_TplaceOf 4 0 0 [.ref (nT d), .ref rj] M (pI fun r M1 => r = nI (plc R j ns) ∧ M1 = M) := by
  have hT := hN.1
  have hL := hN.2.1
  have hsz := hL.len
  rw [List.length_map] at hsz
  have hlen := hN.2.2.2.2.2
  obtain ⟨tw1, tw2⟩ := hsr.tw j
  have hple : plc R j ns ≤ ns.length := tw_le
  refine Ct.start (cc := b_TplaceOf) (nL := 3) (ret := (some .int)) [some (.ref (nT d)), some (.ref rj), none] mi_TplaceOf.1 (by decide +kernel) (by intro v hv; simp at hv; rcases hv with rfl | rfl <;> rfl) (by simp) rfl (fun p e s m args below meth c hC => ?_)
  have loop : ∀ (n : Nat), plc R j ns + n ≤ ns.length → Gj p l e (rmo 4 0 0) s m args below meth c Θ M [some (.ref (nT d)), some (.ref rj), some (.int (nI (plc R j ns + n)))] 0 0 (Fn below args s Θ 0 0 (pI fun r M1 => r = nI (plc R j ns) ∧ M1 = M)) 8 [] := by
    intro n
    induction n with
    | zero =>
      intro hn
      refine r_iload_n hC 2 d_TplaceOf_8 rfl rfl ?_
      refine r_if_le hC 41 d_TplaceOf_9 (by decide) (fun z => ?_) (fun z => ?_)
      · skip
        refine r_iload_n hC 2 d_TplaceOf_41 rfl rfl ?_
        exact r_iret hC d_TplaceOf_42 (Nat.le_refl _) (Nat.le_refl _) ⟨_, rfl, rfl, rfl⟩
      · have hp0 : plc R j ns ≠ 0 := fun q => z (by rw [q]; decide)
        obtain ⟨x, hx, hxm⟩ := get_some (l := ns) (i := plc R j ns - 1) (by omega)
        have hst := hN.2.2.1 x hxm
        have hbx := tw1 _ x (by omega) hx
        refine r_aload_n hC 0 d_TplaceOf_12 rfl rfl ?_
        refine r_getS hC 4 3 131 fl_T27 (by exact hT.1) d_TplaceOf_13 rfl rfl (by exact hT.2.2.2.1) ?_
        refine r_iload_n hC 2 d_TplaceOf_16 rfl rfl ?_
        refine r_iconst hC 1 d_TplaceOf_17 (by decide) ?_
        refine r_isub hC (nI (plc R j ns - 1)) d_TplaceOf_18 (by rw [Nat.add_zero, show (1 : Int32) = nI 1 from rfl, pk_sub (by omega)]) ?_
        refine r_cVr hC [.int (nI (plc R j ns - 1))] rfl (c_Aget l Θ M (nL d) (plc R j ns - 1) _ _ hL (by simp; omega)) mi_Aget lk_T151 in_Aget (ci := 6) rfl rfl (by exact hL.1) rfl (Nat.le_of_ble_eq_true rfl) ⟨Nat.le_of_ble_eq_true rfl, Nat.le_of_ble_eq_true rfl⟩ ⟨Nat.le_of_ble_eq_true rfl, Nat.le_of_ble_eq_true rfl⟩ d_TplaceOf_19 (fun r M1 h1 => ?_)
        obtain ⟨rfl, rfl⟩ := h1
        rw [map_get hx]
        refine r_cast hC 3 rfl hst.1 cl_T31 ca_SS d_TplaceOf_22 ?_
        refine r_getS hC 3 0 96 fl_T102 (by exact hst.1) d_TplaceOf_25 rfl rfl (by exact hst.2.1) ?_
        refine r_aload_n hC 1 d_TplaceOf_28 rfl rfl ?_
        refine r_cVi hC [.ref rj] rfl (c_RisBefore l Θ M1 (ra x) rj x nj (R x) (R j) hst.2.2.2 hj (hb x).1 (hb j).1 (hb x).2 (hb j).2) mi_RisBefore lk_T154 in_RisBefore (ci := 2) rfl rfl (by exact hst.2.2.2.1) rfl (Nat.le_of_ble_eq_true rfl) ⟨Nat.le_of_ble_eq_true rfl, Nat.le_of_ble_eq_true rfl⟩ ⟨Nat.le_of_ble_eq_true rfl, Nat.le_of_ble_eq_true rfl⟩ d_TplaceOf_29 (fun r M2 h2 => ?_)
        obtain ⟨rfl, rfl⟩ := h2
        refine r_if_ne hC 41 d_TplaceOf_32 (by decide) (fun _ => ?_) (fun q => absurd q (by rw [hbx]; decide))
        refine r_iload_n hC 2 d_TplaceOf_41 rfl rfl ?_
        exact r_iret hC d_TplaceOf_42 (Nat.le_refl _) (Nat.le_refl _) ⟨_, rfl, by rw [Nat.add_zero], rfl⟩
    | succ n ih =>
      intro hn
      obtain ⟨x, hx, hxm⟩ := get_some (l := ns) (i := plc R j ns + n) (by omega)
      have hst := hN.2.2.1 x hxm
      have hbx := tw2 _ x (by omega) hx
      refine r_iload_n hC 2 d_TplaceOf_8 rfl rfl ?_
      refine r_if_le hC 41 d_TplaceOf_9 (by decide) (fun z => ?_) (fun z => ?_)
      · exact absurd z (nI_nle (by omega) (by omega))
      · skip
        refine r_aload_n hC 0 d_TplaceOf_12 rfl rfl ?_
        refine r_getS hC 4 3 131 fl_T27 (by exact hT.1) d_TplaceOf_13 rfl rfl (by exact hT.2.2.2.1) ?_
        refine r_iload_n hC 2 d_TplaceOf_16 rfl rfl ?_
        refine r_iconst hC 1 d_TplaceOf_17 (by decide) ?_
        refine r_isub hC (nI (plc R j ns + n)) d_TplaceOf_18 (nI_pred _) ?_
        refine r_cVr hC [.int (nI (plc R j ns + n))] rfl (c_Aget l Θ M (nL d) (plc R j ns + n) _ _ hL (by simp; omega)) mi_Aget lk_T151 in_Aget (ci := 6) rfl rfl (by exact hL.1) rfl (Nat.le_of_ble_eq_true rfl) ⟨Nat.le_of_ble_eq_true rfl, Nat.le_of_ble_eq_true rfl⟩ ⟨Nat.le_of_ble_eq_true rfl, Nat.le_of_ble_eq_true rfl⟩ d_TplaceOf_19 (fun r M1 h1 => ?_)
        obtain ⟨rfl, rfl⟩ := h1
        rw [map_get hx]
        refine r_cast hC 3 rfl hst.1 cl_T31 ca_SS d_TplaceOf_22 ?_
        refine r_getS hC 3 0 96 fl_T102 (by exact hst.1) d_TplaceOf_25 rfl rfl (by exact hst.2.1) ?_
        refine r_aload_n hC 1 d_TplaceOf_28 rfl rfl ?_
        refine r_cVi hC [.ref rj] rfl (c_RisBefore l Θ M1 (ra x) rj x nj (R x) (R j) hst.2.2.2 hj (hb x).1 (hb j).1 (hb x).2 (hb j).2) mi_RisBefore lk_T154 in_RisBefore (ci := 2) rfl rfl (by exact hst.2.2.2.1) rfl (Nat.le_of_ble_eq_true rfl) ⟨Nat.le_of_ble_eq_true rfl, Nat.le_of_ble_eq_true rfl⟩ ⟨Nat.le_of_ble_eq_true rfl, Nat.le_of_ble_eq_true rfl⟩ d_TplaceOf_29 (fun r M2 h2 => ?_)
        obtain ⟨rfl, rfl⟩ := h2
        refine r_if_ne hC 41 d_TplaceOf_32 (by decide) (fun q => absurd (by rw [hbx]; rfl) q) (fun _ => ?_)
        refine r_ii2 hC (nI (plc R j ns + n)) d_TplaceOf_35 (pk_m1 _) ?_
        refine r_goto hC 8 d_TplaceOf_38 (by decide) ?_
        exact ih (by omega)
  refine r_aload_n hC 0 d_TplaceOf_0 rfl rfl ?_
  refine r_getS hC 4 3 131 fl_T27 (by exact hT.1) d_TplaceOf_1 rfl rfl (by exact hT.2.2.2.1) ?_
  refine r_cVi hC [] rfl (c_Asize l Θ M (nL d) hL.1) mi_Asize lk_T118 in_Asize (ci := 6) rfl rfl (by exact hL.1) rfl (Nat.le_of_ble_eq_true rfl) ⟨Nat.le_of_ble_eq_true rfl, Nat.le_of_ble_eq_true rfl⟩ ⟨Nat.le_of_ble_eq_true rfl, Nat.le_of_ble_eq_true rfl⟩ d_TplaceOf_4 (fun r M1 h1 => ?_)
  obtain ⟨rfl, rfl⟩ := h1
  rw [hsz]
  refine r_is2 hC d_TplaceOf_7 ?_
  have := loop (ns.length - plc R j ns) (by omega)
  rw [show plc R j ns + (ns.length - plc R j ns) = ns.length by omega] at this
  exact this
