/-! A TREE'S PLACES in the memory: pa: the place of an object (40: the bin), li: its list of children, cp: what that list's array has room for -/
def oI (o : Nat) : Int32 := if o = 40 then -1 else nI o
def b2i (b : Bool) : Int32 := if b = true then 1 else 0
theorem b2i_01 (b : Bool) : b2i b = 0 ∨ b2i b = 1 := by cases b <;> simp [b2i]
def Pl (M : Mem) (pa li : Nat → Nat) (S : TS) (o : Nat) : Prop := kd M (pa o) = 2 ∧ fI M 32 (pa o) = oI o ∧ fR M 33 (pa o) = some (li o) ∧ fR M 34 (pa o) = (pr S o).map pa ∧ fR M 35 (pa o) = (las S o).map pa ∧ fI M 36 (pa o) = b2i (th S o)
def PA (M : Mem) (pa li : Nat → Nat) (S : TS) (cp : Nat → Nat) : Prop := (∀ o, o ≤ 40 → Pl M pa li S o) ∧ (∀ o, o ≤ 40 → Lst M (li o) ((ki S o).map pa) (cp o)) ∧ ∀ a b, a ≤ 40 → b ≤ 40 → li a = li b → a = b
theorem oI_inj {a b : Nat} (ha : a ≤ 40) (hb : b ≤ 40) (h : oI a = oI b) : a = b := by
  have key : ∀ a, a < 41 → ∀ b, b < 41 → oI a = oI b → a = b := by decide +kernel
  exact key a (by omega) b (by omega) h
theorem PA.inj {M : Mem} {pa li : Nat → Nat} {S : TS} {cp : Nat → Nat} (h : PA M pa li S cp) {a b : Nat} (ha : a ≤ 40) (hb : b ≤ 40) (hab : pa a = pa b) : a = b :=
  oI_inj ha hb (by rw [← (h.1 a ha).2.1, ← (h.1 b hb).2.1, hab])
theorem map_get {l : List Nat} {pa : Nat → Nat} {i x : Nat} (h : l[i]? = some x) : (l.map pa)[i]? = some (pa x) := by rw [List.getElem?_map, h]; rfl
theorem get_some {l : List Nat} {i : Nat} (h : i < l.length) : ∃ x, l[i]? = some x ∧ x ∈ l := ⟨l[i], List.getElem?_eq_getElem h, List.getElem_mem h⟩
theorem idx_iff {l : List Nat} (hn : l.Nodup) {o i : Nat} (h : o ∈ l) : l[i]? = some o ↔ i = l.idxOf o := by
  induction l generalizing i with
  | nil => cases h
  | cons a l ih =>
    obtain ⟨hn1, hn2⟩ := List.nodup_cons.mp hn
    by_cases ha : a = o
    · subst ha
      have e : (a :: l).idxOf a = 0 := by simp
      rw [e]
      cases i with
      | zero => simp
      | succ i =>
        rw [List.getElem?_cons_succ]
        refine ⟨fun z => absurd (List.mem_of_getElem? z) hn1, fun z => by omega⟩
    · have h2 : o ∈ l := by
        rcases List.mem_cons.mp h with z | z
        · exact absurd z.symm ha
        · exact z
      have e : (a :: l).idxOf o = l.idxOf o + 1 := by rw [List.idxOf_cons, show (a == o) = false by simpa using ha]; rfl
      rw [e]
      cases i with
      | zero =>
        rw [List.getElem?_cons_zero]
        exact ⟨fun z => absurd (Option.some.inj z) ha, fun z => by omega⟩
      | succ i =>
        rw [List.getElem?_cons_succ, ih hn2 h2]
        omega
theorem c_Pdepth (l : Launch) (Θ : Glob) (M : Mem) (pa li : Nat → Nat) (S : TS) (cp : Nat → Nat) (hP : PA M pa li S cp) (hW : WF S) (d t : Nat) (ht : pr S t = none) : ∀ o, o ≤ 40 → anc S d o = some t → Ct l Θ y_Pdepth (d + 1) 0 0 [.ref (pa o)] M (pI fun r M1 => r = nI d ∧ M1 = M) := by
  induction d with
  | zero =>
    intro o ho hd
    have hot : o = t := Option.some.inj hd
    subst hot
    obtain ⟨hk, -, -, h34, -⟩ := hP.1 o ho
    rw [ht] at h34
    refine Ct.start (cc := b_Pdepth) (nL := 1) (ret := (some .int)) [some (.ref (pa o))] mi_Pdepth.1 (by decide +kernel) (by intro v hv; simp at hv; rcases hv with rfl <;> rfl) (by simp) rfl (fun p e s m args below meth c hC => ?_)
    refine r_aload_n hC 0 d_Pdepth_0 rfl rfl ?_
    refine r_getR hC 1 2 34 fl_P24 (by exact hk) d_Pdepth_1 rfl rfl (by exact h34) ?_
    refine r_ifnonnull hC (r := none) 11 d_Pdepth_4 (by decide) (fun x z => by cases z) (fun _ => ?_)
    refine r_iconst hC 0 d_Pdepth_7 (by decide) ?_
    refine r_goto hC 20 d_Pdepth_8 (by decide) ?_
    exact r_iret hC d_Pdepth_20 (Nat.le_refl _) (Nat.le_refl _) ⟨_, rfl, rfl, rfl⟩
  | succ d ih =>
    intro o ho hd
    cases hp : pr S o with
    | none => rw [anc_n hp] at hd; cases hd
    | some p2 =>
      rw [anc_s hp] at hd
      obtain ⟨hk, -, -, h34, -⟩ := hP.1 o ho
      rw [hp] at h34
      have h34 : fR M 34 (pa o) = some (pa p2) := h34
      have hpl := (hW.ple hp).1
      have hkp := (hP.1 p2 hpl).1
      refine Ct.start (cc := b_Pdepth) (nL := 1) (ret := (some .int)) [some (.ref (pa o))] mi_Pdepth.1 (by decide +kernel) (by intro v hv; simp at hv; rcases hv with rfl <;> rfl) (by simp) rfl (fun p e s m args below meth c hC => ?_)
      refine r_aload_n hC 0 d_Pdepth_0 rfl rfl ?_
      refine r_getR hC 1 2 34 fl_P24 (by exact hk) d_Pdepth_1 rfl rfl (by exact h34) ?_
      refine r_ifnonnull hC (r := some (pa p2)) 11 d_Pdepth_4 (by decide) (fun x _ => ?_) (fun z => by cases z)
      refine r_iconst hC 1 d_Pdepth_11 (by decide) ?_
      refine r_aload_n hC 0 d_Pdepth_12 rfl rfl ?_
      refine r_getS hC 1 2 34 fl_P24 (by exact hk) d_Pdepth_13 rfl rfl (by exact h34) ?_
      refine r_cVi hC [] rfl (ih p2 hpl hd) mi_Pdepth lk_P28 in_Pdepth (ci := 1) rfl rfl (by exact hkp) rfl (Nat.le_of_ble_eq_true rfl) ⟨by show d + 1 + 1 ≤ d + 1 + 1; omega, by show 8 + (1 + 11) + 32 * (d + 1) ≤ 32 * (d + 1 + 1); omega⟩ ⟨Nat.le_of_ble_eq_true rfl, Nat.le_of_ble_eq_true rfl⟩ d_Pdepth_16 (fun r M1 h1 => ?_)
      obtain ⟨rfl, rfl⟩ := h1
      refine r_iadd hC (nI (d + 1)) d_Pdepth_19 (by rw [show (1 : Int32) = nI 1 from rfl, nI_add, Nat.add_comm]) ?_
      exact r_iret hC d_Pdepth_20 (Nat.le_refl _) (Nat.le_refl _) ⟨_, rfl, rfl, rfl⟩
theorem c_Ptop (l : Launch) (Θ : Glob) (M : Mem) (pa li : Nat → Nat) (S : TS) (cp : Nat → Nat) (hP : PA M pa li S cp) (hW : WF S) (d t : Nat) (ht : pr S t = none) : ∀ o, o ≤ 40 → anc S d o = some t → Ct l Θ y_Ptop (d + 1) 0 0 [.ref (pa o)] M (pR fun r M1 => r = some (pa t) ∧ M1 = M) := by
  induction d with
  | zero =>
    intro o ho hd
    have hot : o = t := Option.some.inj hd
    subst hot
    obtain ⟨hk, -, -, h34, -⟩ := hP.1 o ho
    rw [ht] at h34
    refine Ct.start (cc := b_Ptop) (nL := 1) (ret := (some (.object "BinTrees$Place"))) [some (.ref (pa o))] mi_Ptop.1 (by decide +kernel) (by intro v hv; simp at hv; rcases hv with rfl <;> rfl) (by simp) rfl (fun p e s m args below meth c hC => ?_)
    refine r_aload_n hC 0 d_Ptop_0 rfl rfl ?_
    refine r_getR hC 1 2 34 fl_P24 (by exact hk) d_Ptop_1 rfl rfl (by exact h34) ?_
    refine r_ifnonnull hC (r := none) 11 d_Ptop_4 (by decide) (fun x z => by cases z) (fun _ => ?_)
    refine r_aload_n hC 0 d_Ptop_7 rfl rfl ?_
    refine r_goto hC 18 d_Ptop_8 (by decide) ?_
    exact r_aret hC (r := some (pa o)) rfl d_Ptop_18 (Nat.le_refl _) (Nat.le_refl _) ⟨_, rfl, rfl, rfl⟩
  | succ d ih =>
    intro o ho hd
    cases hp : pr S o with
    | none => rw [anc_n hp] at hd; cases hd
    | some p2 =>
      rw [anc_s hp] at hd
      obtain ⟨hk, -, -, h34, -⟩ := hP.1 o ho
      rw [hp] at h34
      have h34 : fR M 34 (pa o) = some (pa p2) := h34
      have hpl := (hW.ple hp).1
      have hkp := (hP.1 p2 hpl).1
      refine Ct.start (cc := b_Ptop) (nL := 1) (ret := (some (.object "BinTrees$Place"))) [some (.ref (pa o))] mi_Ptop.1 (by decide +kernel) (by intro v hv; simp at hv; rcases hv with rfl <;> rfl) (by simp) rfl (fun p e s m args below meth c hC => ?_)
      refine r_aload_n hC 0 d_Ptop_0 rfl rfl ?_
      refine r_getR hC 1 2 34 fl_P24 (by exact hk) d_Ptop_1 rfl rfl (by exact h34) ?_
      refine r_ifnonnull hC (r := some (pa p2)) 11 d_Ptop_4 (by decide) (fun x _ => ?_) (fun z => by cases z)
      refine r_aload_n hC 0 d_Ptop_11 rfl rfl ?_
      refine r_getS hC 1 2 34 fl_P24 (by exact hk) d_Ptop_12 rfl rfl (by exact h34) ?_
      refine r_cVr hC [] rfl (ih p2 hpl hd) mi_Ptop lk_P44 in_Ptop (ci := 1) rfl rfl (by exact hkp) rfl (Nat.le_of_ble_eq_true rfl) ⟨by show d + 1 + 1 ≤ d + 1 + 1; omega, by show 8 + (1 + 11) + 32 * (d + 1) ≤ 32 * (d + 1 + 1); omega⟩ ⟨Nat.le_of_ble_eq_true rfl, Nat.le_of_ble_eq_true rfl⟩ d_Ptop_15 (fun r M1 h1 => ?_)
      obtain ⟨rfl, rfl⟩ := h1
      exact r_aret hC rfl d_Ptop_18 (Nat.le_refl _) (Nat.le_refl _) ⟨_, rfl, rfl, rfl⟩
theorem c_PisWithin (l : Launch) (Θ : Glob) (M : Mem) (pa li : Nat → Nat) (S : TS) (cp : Nat → Nat) (hP : PA M pa li S cp) (hW : WF S) (o x d t : Nat) (ho : o ≤ 40) (hx : x ≤ 40) (ht : pr S t = none) (hd : anc S d o = some t) : Ct l Θ y_PisWithin 1 0 0 [.ref (pa o), .ref (pa x)] M (pI fun r M1 => r = b2i (dm (∃ k, anc S k o = some x)) ∧ M1 = M) := by
  refine Ct.start (cc := b_PisWithin) (nL := 3) (ret := (some .boolean)) [some (.ref (pa o)), some (.ref (pa x)), none] mi_PisWithin.1 (by decide +kernel) (by intro v hv; simp at hv; rcases hv with rfl | rfl <;> rfl) (by simp) rfl (fun p e s m args below meth c hC => ?_)
  have loop : ∀ (n : Nat) (y : Nat), y ≤ 40 → anc S n y = some t → ((∃ k, anc S k o = some x) ↔ ∃ k, anc S k y = some x) → Gj p l e (rmo 1 0 0) s m args below meth c Θ M [some (.ref (pa o)), some (.ref (pa x)), some (.ref (pa y))] 0 0 (Fn below args s Θ 0 0 (pI fun r M1 => r = b2i (dm (∃ k, anc S k o = some x)) ∧ M1 = M)) 2 [] := by
    intro n
    induction n with
    | zero =>
      intro y hy hn hiff
      have hot : y = t := Option.some.inj hn
      subst hot
      obtain ⟨hk, -, -, h34, -⟩ := hP.1 y hy
      rw [ht] at h34
      refine r_aload_n hC 2 d_PisWithin_2 rfl rfl ?_
      refine r_ifnull hC (r := some (pa y)) 19 d_PisWithin_3 (by decide) (fun z => by cases z) (fun _ _ => ?_)
      refine r_aload_n hC 2 d_PisWithin_6 rfl rfl ?_
      refine r_aload_n hC 1 d_PisWithin_7 rfl rfl ?_
      refine r_acmp_eq hC (rx := some (pa y)) (ry := some (pa x)) 19 d_PisWithin_8 (by decide) (fun z => ?_) (fun z => ?_)
      · skip
        refine r_aload_n hC 2 d_PisWithin_19 rfl rfl ?_
        refine r_aload_n hC 1 d_PisWithin_20 rfl rfl ?_
        have hyx : y = x := hP.inj hy hx (Option.some.inj z)
        refine r_acmp_ne hC (rx := some (pa y)) (ry := some (pa x)) 28 d_PisWithin_21 (by decide) (fun q => absurd z q) (fun _ => ?_)
        refine r_iconst hC 1 d_PisWithin_24 (by decide) ?_
        refine r_goto hC 29 d_PisWithin_25 (by decide) ?_
        exact r_zret hC d_PisWithin_29 (Or.inr rfl) (Nat.le_refl _) (Nat.le_refl _) ⟨_, rfl, by rw [dm_t (hiff.mpr ⟨0, by rw [hyx]; rfl⟩)]; rfl, rfl⟩
      · have hno : ¬ ∃ k, anc S k o = some x := fun q => by
          obtain ⟨k, hk⟩ := hiff.mp q
          cases k with
          | zero => cases hk; exact z rfl
          | succ k => rw [anc_n ht] at hk; cases hk
        refine r_aload_n hC 2 d_PisWithin_11 rfl rfl ?_
        refine r_getR hC 1 2 34 fl_P24 (by exact hk) d_PisWithin_12 rfl rfl (by exact h34) ?_
        refine r_an2 hC d_PisWithin_15 ?_
        refine r_goto hC 2 d_PisWithin_16 (by decide) ?_
        refine r_aload_nN hC 2 d_PisWithin_2 rfl rfl ?_
        refine r_ifnull hC (r := none) 19 d_PisWithin_3 (by decide) (fun _ => ?_) (fun _ z => by cases z)
        refine r_aload_nN hC 2 d_PisWithin_19 rfl rfl ?_
        refine r_aload_n hC 1 d_PisWithin_20 rfl rfl ?_
        refine r_acmp_ne hC (rx := none) (ry := some (pa x)) 28 d_PisWithin_21 (by decide) (fun _ => ?_) (fun z => by cases z)
        refine r_iconst hC 0 d_PisWithin_28 (by decide) ?_
        exact r_zret hC d_PisWithin_29 (Or.inl rfl) (Nat.le_refl _) (Nat.le_refl _) ⟨_, rfl, by rw [dm_f hno]; rfl, rfl⟩
    | succ n ih =>
      intro y hy hn hiff
      cases hp : pr S y with
      | none => rw [anc_n hp] at hn; cases hn
      | some p2 =>
      rw [anc_s hp] at hn
      obtain ⟨hk, -, -, h34, -⟩ := hP.1 y hy
      rw [hp] at h34
      have h34 : fR M 34 (pa y) = some (pa p2) := h34
      have hpl := (hW.ple hp).1
      refine r_aload_n hC 2 d_PisWithin_2 rfl rfl ?_
      refine r_ifnull hC (r := some (pa y)) 19 d_PisWithin_3 (by decide) (fun z => by cases z) (fun _ _ => ?_)
      refine r_aload_n hC 2 d_PisWithin_6 rfl rfl ?_
      refine r_aload_n hC 1 d_PisWithin_7 rfl rfl ?_
      refine r_acmp_eq hC (rx := some (pa y)) (ry := some (pa x)) 19 d_PisWithin_8 (by decide) (fun z => ?_) (fun z => ?_)
      · skip
        refine r_aload_n hC 2 d_PisWithin_19 rfl rfl ?_
        refine r_aload_n hC 1 d_PisWithin_20 rfl rfl ?_
        have hyx : y = x := hP.inj hy hx (Option.some.inj z)
        refine r_acmp_ne hC (rx := some (pa y)) (ry := some (pa x)) 28 d_PisWithin_21 (by decide) (fun q => absurd z q) (fun _ => ?_)
        refine r_iconst hC 1 d_PisWithin_24 (by decide) ?_
        refine r_goto hC 29 d_PisWithin_25 (by decide) ?_
        exact r_zret hC d_PisWithin_29 (Or.inr rfl) (Nat.le_refl _) (Nat.le_refl _) ⟨_, rfl, by rw [dm_t (hiff.mpr ⟨0, by rw [hyx]; rfl⟩)]; rfl, rfl⟩
      · skip
        refine r_aload_n hC 2 d_PisWithin_11 rfl rfl ?_
        refine r_getS hC 1 2 34 fl_P24 (by exact hk) d_PisWithin_12 rfl rfl (by exact h34) ?_
        refine r_as2 hC d_PisWithin_15 ?_
        refine r_goto hC 2 d_PisWithin_16 (by decide) ?_
        refine ih p2 hpl hn (hiff.trans ⟨fun q => ?_, fun q => ?_⟩)
        · obtain ⟨k, hk⟩ := q
          cases k with
          | zero => cases hk; exact absurd rfl z
          | succ k => rw [anc_s hp] at hk; exact ⟨k, hk⟩
        · obtain ⟨k, hk⟩ := q
          exact ⟨k + 1, by rw [anc_s hp]; exact hk⟩
  refine r_aload_n hC 0 d_PisWithin_0 rfl rfl ?_
  refine r_as2 hC d_PisWithin_1 ?_
  exact loop d o ho hd Iff.rfl
theorem c_PplaceOf (l : Launch) (Θ : Glob) (M : Mem) (pa li : Nat → Nat) (S : TS) (cp : Nat → Nat) (hP : PA M pa li S cp) (q x : Nat) (hq : q ≤ 40) (hx : x ∈ ki S q) (hnd : (ki S q).Nodup) (hkb : ∀ y ∈ ki S q, y ≤ 40) (hlen : (ki S q).length ≤ 39) : Ct l Θ y_PplaceOf 4 0 0 [.ref (pa q), .ref (pa x)] M (pI fun r M1 => r = nI ((ki S q).idxOf x) ∧ M1 = M) := by
  obtain ⟨hk, -, h33, -⟩ := hP.1 q hq
  have hL := hP.2.1 q hq
  have hix : (ki S q).idxOf x < (ki S q).length := List.idxOf_lt_length_of_mem hx
  refine Ct.start (cc := b_PplaceOf) (nL := 3) (ret := (some .int)) [some (.ref (pa q)), some (.ref (pa x)), none] mi_PplaceOf.1 (by decide +kernel) (by intro v hv; simp at hv; rcases hv with rfl | rfl <;> rfl) (by simp) rfl (fun p e s m args below meth c hC => ?_)
  have loop : ∀ (n i : Nat), i + n = (ki S q).idxOf x → Gj p l e (rmo 4 0 0) s m args below meth c Θ M [some (.ref (pa q)), some (.ref (pa x)), some (.int (nI i))] 0 0 (Fn below args s Θ 0 0 (pI fun r M1 => r = nI ((ki S q).idxOf x) ∧ M1 = M)) 2 [] := by
    intro n
    induction n with
    | zero =>
      intro i hi
      refine r_aload_n hC 0 d_PplaceOf_2 rfl rfl ?_
      refine r_getS hC 1 1 33 fl_P10 (by exact hk) d_PplaceOf_3 rfl rfl (by exact h33) ?_
      refine r_iload_n hC 2 d_PplaceOf_6 rfl rfl ?_
      refine r_cVr hC [.int (nI i)] rfl (c_Aget l Θ M (li q) i _ _ hL (by simp; omega)) mi_Aget lk_P20 in_Aget (ci := 6) rfl rfl (by exact hL.1) rfl (Nat.le_of_ble_eq_true rfl) ⟨Nat.le_of_ble_eq_true rfl, Nat.le_of_ble_eq_true rfl⟩ ⟨Nat.le_of_ble_eq_true rfl, Nat.le_of_ble_eq_true rfl⟩ d_PplaceOf_7 (fun r M1 h1 => ?_)
      obtain ⟨rfl, rfl⟩ := h1
      refine r_aload_n hC 1 d_PplaceOf_10 rfl rfl ?_
      have hg : ((ki S q).map pa)[i]? = some (pa x) := map_get ((idx_iff hnd hx).mpr (by omega))
      refine r_acmp_eq hC (ry := some (pa x)) 20 d_PplaceOf_11 (by decide) (fun z => ?_) (fun z => absurd hg z)
      refine r_iload_n hC 2 d_PplaceOf_20 rfl rfl ?_
      exact r_iret hC d_PplaceOf_21 (Nat.le_refl _) (Nat.le_refl _) ⟨_, rfl, by rw [← hi, Nat.add_zero], rfl⟩
    | succ n ih =>
      intro i hi
      refine r_aload_n hC 0 d_PplaceOf_2 rfl rfl ?_
      refine r_getS hC 1 1 33 fl_P10 (by exact hk) d_PplaceOf_3 rfl rfl (by exact h33) ?_
      refine r_iload_n hC 2 d_PplaceOf_6 rfl rfl ?_
      refine r_cVr hC [.int (nI i)] rfl (c_Aget l Θ M (li q) i _ _ hL (by simp; omega)) mi_Aget lk_P20 in_Aget (ci := 6) rfl rfl (by exact hL.1) rfl (Nat.le_of_ble_eq_true rfl) ⟨Nat.le_of_ble_eq_true rfl, Nat.le_of_ble_eq_true rfl⟩ ⟨Nat.le_of_ble_eq_true rfl, Nat.le_of_ble_eq_true rfl⟩ d_PplaceOf_7 (fun r M1 h1 => ?_)
      obtain ⟨rfl, rfl⟩ := h1
      refine r_aload_n hC 1 d_PplaceOf_10 rfl rfl ?_
      obtain ⟨y, hy, hym⟩ := get_some (l := ki S q) (i := i) (by omega)
      refine r_acmp_eq hC (ry := some (pa x)) 20 d_PplaceOf_11 (by decide) (fun z => ?_) (fun z => ?_)
      · rw [map_get hy] at z
        have hyx := hP.inj (hkb y hym) (hkb x hx) (Option.some.inj z)
        rw [hyx] at hy
        have := (idx_iff hnd hx).mp hy
        omega
      · skip
        refine r_ii2 hC (nI (i + 1)) d_PplaceOf_14 (nI_1 i) ?_
        refine r_goto hC 2 d_PplaceOf_17 (by decide) ?_
        exact ih (i + 1) (by omega)
  refine r_iconst hC 0 d_PplaceOf_0 (by decide) ?_
  refine r_is2 hC d_PplaceOf_1 ?_
  exact loop _ 0 (Nat.zero_add _)
/-- how far down it goes, looking n levels down -/
def htv (S : TS) : Nat → Nat → Nat
  | 0, _ => 0
  | n + 1, o => (ki S o).foldl (fun m c => max m (1 + htv S n c)) 0
theorem take_succ' {l : List Nat} {i x : Nat} (h : l[i]? = some x) : l.take (i + 1) = l.take i ++ [x] := by
  rw [List.take_succ, h]; rfl
theorem c_Pheight (l : Launch) (Θ : Glob) (M : Mem) (pa li : Nat → Nat) (S : TS) (cp : Nat → Nat) (hP : PA M pa li S cp) (hW : WF S) : ∀ (n o : Nat), o ≤ 40 → (∀ k x, anc S k x = some o → k ≤ n) → n ≤ 40 → Ct l Θ y_Pheight (n + 4) 0 0 [.ref (pa o)] M (pI fun r M1 => r = nI (htv S (n + 1) o) ∧ M1 = M ∧ htv S (n + 1) o ≤ n) := by
  intro n
  induction n with
  | zero =>
    intro o ho hb _
    have hke : ki S o = [] := by
      cases hc : ki S o with
      | nil => rfl
      | cons a r =>
        have h1 : pr S a = some o := hW.kp.mpr (by rw [hc]; exact List.mem_cons_self)
        have := hb 1 a (by rw [anc_one]; exact h1)
        omega
    have hv : htv S (0 + 1) o = 0 := by show (ki S o).foldl _ 0 = 0; rw [hke]; rfl
    rw [hv]
    obtain ⟨hk, -, h33, -⟩ := hP.1 o ho
    have hL := hP.2.1 o ho
    have hsz : fI M 193 (li o) = nI 0 := by obtain ⟨-, q, -, -, hz, -⟩ := hL; rw [hz, hke]; rfl
    refine Ct.start (cc := b_Pheight) (nL := 3) (ret := (some .int)) [some (.ref (pa o)), none, none] mi_Pheight.1 (by decide +kernel) (by intro v hv; simp at hv; rcases hv with rfl <;> rfl) (by simp) rfl (fun p e s m args below meth c hC => ?_)
    refine r_iconst hC 0 d_Pheight_0 (by decide) ?_
    refine r_is1 hC d_Pheight_1 ?_
    refine r_iconst hC 0 d_Pheight_2 (by decide) ?_
    refine r_is2 hC d_Pheight_3 ?_
    refine r_iload_n hC 2 d_Pheight_4 rfl rfl ?_
    refine r_aload_n hC 0 d_Pheight_5 rfl rfl ?_
    refine r_getS hC 1 1 33 fl_P10 (by exact hk) d_Pheight_6 rfl rfl (by exact h33) ?_
    refine r_cVi hC [] rfl (c_Asize l Θ M (li o) hL.1) mi_Asize lk_P32 in_Asize (ci := 6) rfl rfl (by exact hL.1) rfl (Nat.le_of_ble_eq_true rfl) ⟨Nat.le_of_ble_eq_true rfl, Nat.le_of_ble_eq_true rfl⟩ ⟨Nat.le_of_ble_eq_true rfl, Nat.le_of_ble_eq_true rfl⟩ d_Pheight_9 (fun r M1 h1 => ?_)
    obtain ⟨rfl, rfl⟩ := h1
    refine r_icmp_ge hC 42 d_Pheight_12 (by decide) (fun z => ?_) (fun z => ?_)
    · skip
      refine r_iload_n hC 1 d_Pheight_42 rfl rfl ?_
      exact r_iret hC d_Pheight_43 (Nat.le_refl _) (Nat.le_refl _) ⟨_, rfl, rfl, rfl, Nat.le_refl _⟩
    · exact absurd (by rw [hsz]; decide) z
  | succ n ih =>
    intro o ho hb hn
    obtain ⟨hk, -, h33, -⟩ := hP.1 o ho
    have hL := hP.2.1 o ho
    have hlen := hW.klen o
    have hsz : fI M 193 (li o) = nI (ki S o).length := by obtain ⟨-, q, -, -, hz, -⟩ := hL; rw [hz, List.length_map]
    have hv : htv S (n + 1 + 1) o = (ki S o).foldl (fun m c => max m (1 + htv S (n + 1) c)) 0 := rfl
    have hcb : ∀ c ∈ ki S o, ∀ k x, anc S k x = some c → k ≤ n := fun c hc k x hx => by
      have := hb (k + 1) x (anc_last hx (hW.kp.mpr hc))
      omega
    refine Ct.start (cc := b_Pheight) (nL := 3) (ret := (some .int)) [some (.ref (pa o)), none, none] mi_Pheight.1 (by decide +kernel) (by intro v hv; simp at hv; rcases hv with rfl <;> rfl) (by simp) rfl (fun p e s m args below meth c hC => ?_)
    have loop : ∀ (r i v : Nat), i + r = (ki S o).length → v = ((ki S o).take i).foldl (fun m c => max m (1 + htv S (n + 1) c)) 0 → v ≤ n + 1 → Gj p l e (rmo (n + 1 + 4) 0 0) s m args below meth c Θ M [some (.ref (pa o)), some (.int (nI v)), some (.int (nI i))] 0 0 (Fn below args s Θ 0 0 (pI fun r M1 => r = nI (htv S (n + 1 + 1) o) ∧ M1 = M ∧ htv S (n + 1 + 1) o ≤ n + 1)) 4 [] := by
      intro r
      induction r with
      | zero =>
        intro i v hi hv2 hvn
        refine r_iload_n hC 2 d_Pheight_4 rfl rfl ?_
        refine r_aload_n hC 0 d_Pheight_5 rfl rfl ?_
        refine r_getS hC 1 1 33 fl_P10 (by exact hk) d_Pheight_6 rfl rfl (by exact h33) ?_
        refine r_cVi hC [] rfl (c_Asize l Θ M (li o) hL.1) mi_Asize lk_P32 in_Asize (ci := 6) rfl rfl (by exact hL.1) rfl (Nat.le_of_ble_eq_true rfl) ⟨by show 1 + 1 ≤ n + 1 + 4; omega, by show 8 + (1 + 11) + 32 * 1 ≤ 32 * (n + 1 + 4); omega⟩ ⟨Nat.le_of_ble_eq_true rfl, Nat.le_of_ble_eq_true rfl⟩ d_Pheight_9 (fun r M1 h1 => ?_)
        obtain ⟨rfl, rfl⟩ := h1
        rw [hsz]
        refine r_icmp_ge hC 42 d_Pheight_12 (by decide) (fun z => ?_) (fun z => ?_)
        · have e1 : v = htv S (n + 1 + 1) o := by rw [hv2, hv, List.take_of_length_le (by omega)]
          refine r_iload_n hC 1 d_Pheight_42 rfl rfl ?_
          exact r_iret hC d_Pheight_43 (Nat.le_refl _) (Nat.le_refl _) ⟨_, rfl, by rw [e1], rfl, by rw [← e1]; exact hvn⟩
        · exact absurd (nI_le (by omega) (by omega)) z
      | succ r ih2 =>
        intro i v hi hv2 hvn
        obtain ⟨y, hy, hym⟩ := get_some (l := ki S o) (i := i) (by omega)
        have hy40 := (hW.klt hym).1
        have hky := (hP.1 y (by omega)).1
        refine r_iload_n hC 2 d_Pheight_4 rfl rfl ?_
        refine r_aload_n hC 0 d_Pheight_5 rfl rfl ?_
        refine r_getS hC 1 1 33 fl_P10 (by exact hk) d_Pheight_6 rfl rfl (by exact h33) ?_
        refine r_cVi hC [] rfl (c_Asize l Θ M (li o) hL.1) mi_Asize lk_P32 in_Asize (ci := 6) rfl rfl (by exact hL.1) rfl (Nat.le_of_ble_eq_true rfl) ⟨by show 1 + 1 ≤ n + 1 + 4; omega, by show 8 + (1 + 11) + 32 * 1 ≤ 32 * (n + 1 + 4); omega⟩ ⟨Nat.le_of_ble_eq_true rfl, Nat.le_of_ble_eq_true rfl⟩ d_Pheight_9 (fun r M1 h1 => ?_)
        obtain ⟨rfl, rfl⟩ := h1
        rw [hsz]
        refine r_icmp_ge hC 42 d_Pheight_12 (by decide) (fun z => ?_) (fun z => ?_)
        · exact absurd z (nI_ge (by omega) (by omega))
        · skip
          refine r_iload_n hC 1 d_Pheight_15 rfl rfl ?_
          refine r_iconst hC 1 d_Pheight_16 (by decide) ?_
          refine r_aload_n hC 0 d_Pheight_17 rfl rfl ?_
          refine r_getS hC 1 1 33 fl_P10 (by exact hk) d_Pheight_18 rfl rfl (by exact h33) ?_
          refine r_iload_n hC 2 d_Pheight_21 rfl rfl ?_
          refine r_cVr hC [.int (nI i)] rfl (c_Aget l Θ M1 (li o) i _ _ hL (by simp; omega)) mi_Aget lk_P20 in_Aget (ci := 6) rfl rfl (by exact hL.1) rfl (Nat.le_of_ble_eq_true rfl) ⟨by show 3 + 1 ≤ n + 1 + 4; omega, by show 8 + (2 + 11) + 32 * 3 ≤ 32 * (n + 1 + 4); omega⟩ ⟨Nat.le_of_ble_eq_true rfl, Nat.le_of_ble_eq_true rfl⟩ d_Pheight_22 (fun r M1 h1 => ?_)
          obtain ⟨rfl, rfl⟩ := h1
          rw [map_get hy]
          refine r_cast hC 1 rfl hky cl_P11 ca_PP d_Pheight_25 ?_
          refine r_cVi hC [] rfl (ih y (by omega) (hcb y hym) (by omega)) mi_Pheight lk_P35 in_Pheight (ci := 1) rfl rfl (by exact hky) rfl (Nat.le_of_ble_eq_true rfl) ⟨by show n + 4 + 1 ≤ n + 1 + 4; omega, by show 8 + (3 + 11) + 32 * (n + 4) ≤ 32 * (n + 1 + 4); omega⟩ ⟨Nat.le_of_ble_eq_true rfl, Nat.le_of_ble_eq_true rfl⟩ d_Pheight_28 (fun r M1 h1 => ?_)
          obtain ⟨rfl, rfl, hyn⟩ := h1
          refine r_iadd hC (nI (1 + htv S (n + 1) y)) d_Pheight_31 (by rw [show (1 : Int32) = nI 1 from rfl, nI_add]) ?_
          refine r_max hC rfl lk_P38 ma_max.1 ma_max.2.1 ma_max.2.2 d_Pheight_32 (by show 1 ≤ n + 1 + 4; omega) (by show 0 + 13 ≤ 32 * (n + 1 + 4); omega) (Nat.le_of_ble_eq_true rfl) (Nat.le_of_ble_eq_true rfl) (nI_max (by omega) (by omega)) ?_
          refine r_is1 hC d_Pheight_35 ?_
          refine r_ii2 hC (nI (i + 1)) d_Pheight_36 (nI_1 i) ?_
          refine r_goto hC 4 d_Pheight_39 (by decide) ?_
          exact ih2 (i + 1) _ (by omega) (by rw [take_succ' hy, List.foldl_append, ← hv2]; rfl) (by omega)
    refine r_iconst hC 0 d_Pheight_0 (by decide) ?_
    refine r_is1 hC d_Pheight_1 ?_
    refine r_iconst hC 0 d_Pheight_2 (by decide) ?_
    refine r_is2 hC d_Pheight_3 ?_
    exact loop _ 0 0 (Nat.zero_add _) rfl (by omega)
