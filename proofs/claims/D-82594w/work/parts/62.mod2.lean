/-- the model's arrays hold the tree S -/
def TV (V : Nat → Nat → Int32) (S : TS) : Prop :=
  (∀ o, o < 40 → V 173 o = b2i (th S o)) ∧ (∀ o p, pr S o = some p → V 174 o = nI p) ∧ (∀ o, o < 40 → V 175 o = oO (las S o)) ∧ (∀ p, p ≤ 40 → V 176 p = nI (ki S p).length) ∧ ∀ p i x, p ≤ 40 → (ki S p)[i]? = some x → V 177 (40 * p + i) = nI x
theorem anc_p {S : TS} (hW : WF S) {o d t : Nat} (ho : th S o = true) (ha : anc S d o = some t) (ht : t = 0 ∨ t = 40) : (o = 0 ∧ d = 0 ∧ t = 0) ∨ (o ≠ 0 ∧ pr S o = some 40 ∧ d = 1 ∧ t = 40) ∨ ∃ p, o ≠ 0 ∧ pr S o = some p ∧ p ≠ 40 ∧ th S p = true ∧ 1 ≤ d ∧ anc S (d - 1) p = some t := by
  by_cases h0 : o = 0
  · subst h0
    have := anc_uni (anc_0 S 0) hW.p0 ha (hW.tn ht)
    exact Or.inl ⟨rfl, this.1.symm, this.2.symm⟩
  · obtain ⟨p, hp⟩ := hW.par ho h0
    have hd : 1 ≤ d := by
      rcases Nat.eq_zero_or_pos d with z | z
      · rw [z, anc_0] at ha
        have := hW.lt ho
        have := Option.some.inj ha
        omega
      · exact z
    obtain ⟨d2, rfl⟩ : ∃ d2, d = d2 + 1 := ⟨d - 1, by omega⟩
    rw [anc_s hp] at ha
    by_cases h40 : p = 40
    · subst h40
      have := anc_uni (anc_0 S 40) hW.p40 ha (hW.tn ht)
      exact Or.inr (Or.inl ⟨h0, hp, by omega, this.2.symm⟩)
    · exact Or.inr (Or.inr ⟨p, h0, hp, h40, (hW.ch hp).2.2.resolve_left h40, hd, ha⟩)
theorem c_Mdepth (l : Launch) (Θ : Glob) (M : Mem) (Y : Nat) (ar : Nat → Nat) (V : Nat → Nat → Int32) (I : Nat → Int32) (hV : MV M Y ar V I) (S : TS) (hS : TV V S) (hW : WF S) (o d t : Nat) (ho : th S o = true) (ha : anc S d o = some t) (ht : t = 0 ∨ t = 40) (hd : d ≤ 8) : Ct l Θ y_Mdepth 1 0 0 [.ref Y, .int (nI o)] M (pI fun r M1 => r = nI (if t = 40 then d - 1 else d) ∧ M1 = M) := by
  refine Ct.start (cc := b_Mdepth) (nL := 4) (ret := (some .int)) [some (.ref Y), some (.int (nI o)), none, none] mi_Mdepth.1 (by decide +kernel) (by intro v hv; simp at hv; rcases hv with rfl | rfl <;> rfl) (by simp) rfl (fun p e s m args below meth c hC => ?_)
  have loop : ∀ (c2 x n : Nat), th S x = true → anc S c2 x = some t → n + c2 = d → Gj p l e (rmo 1 0 0) s m args below meth c Θ M [some (.ref Y), some (.int (nI o)), some (.int (nI n)), some (.int (nI x))] 0 0 (Fn below args s Θ 0 0 (pI fun r M1 => r = nI (if t = 40 then d - 1 else d) ∧ M1 = M)) 4 [] := by
    intro c2
    induction c2 with
    | zero =>
      intro x n hx hax hn
      have e : x = t := Option.some.inj hax
      have hx40 := hW.lt hx
      have t0 : t = 0 := by omega
      have x0 : x = 0 := by omega
      have ev : (if t = 40 then d - 1 else d) = n := by rw [if_neg (by omega)]; omega
      rw [ev]
      refine r_iload_n hC 3 d_Mdepth_4 rfl rfl ?_
      refine r_if_eq hC 32 d_Mdepth_5 (by decide) (fun _ => ?_) (fun z => absurd (by rw [x0]; rfl) z)
      refine r_iload_n hC 2 d_Mdepth_32 rfl rfl ?_
      exact r_iret hC d_Mdepth_33 (Nat.le_refl _) (Nat.le_refl _) ⟨_, rfl, rfl, rfl⟩
    | succ c2 ih =>
      intro x n hx hax hn
      have hx40 := hW.lt hx
      rcases anc_p hW hx hax ht with ⟨-, h2, -⟩ | ⟨h1, h2, h3, h4⟩ | ⟨q, h1, h2, h3, h4, h5, h6⟩
      · omega
      · have c0 : c2 = 0 := by omega
        have ev : (if t = 40 then d - 1 else d) = n := by rw [if_pos h4]; omega
        have hv := hS.2.1 x 40 h2
        rw [ev]
        refine r_iload_n hC 3 d_Mdepth_4 rfl rfl ?_
        refine r_if_eq hC 32 d_Mdepth_5 (by decide) (fun z => absurd z (nI_ne0 (by omega) (by omega))) (fun _ => ?_)
        refine r_aload_n hC 0 d_Mdepth_8 rfl rfl ?_
        refine r_getS hC 5 14 174 fl_M48 (by exact hV.k) d_Mdepth_9 rfl rfl (by exact (hV.rf 174 (by decide))) ?_
        refine r_iload_n hC 3 d_Mdepth_12 rfl rfl ?_
        refine r_iald hC (x) (hV.ak 174 (by decide)) rfl (by rw [hV.al 174 (by decide)]; exact (show x < mLn 174 from (by show x < 40; omega))) (by rw [hV.al 174 (by decide)]; decide) d_Mdepth_13 (hV.el 174 (by decide) (x)) ?_
        refine r_bipush hC 40 d_Mdepth_14 (by decide) ?_
        rw [hv]
        refine r_icmp_eq hC 32 d_Mdepth_16 (by decide) (fun _ => ?_) (fun z => absurd rfl z)
        refine r_iload_n hC 2 d_Mdepth_32 rfl rfl ?_
        exact r_iret hC d_Mdepth_33 (Nat.le_refl _) (Nat.le_refl _) ⟨_, rfl, rfl, rfl⟩
      · have hv := hS.2.1 x q h2
        have hq := hW.lt h4
        refine r_iload_n hC 3 d_Mdepth_4 rfl rfl ?_
        refine r_if_eq hC 32 d_Mdepth_5 (by decide) (fun z => absurd z (nI_ne0 (by omega) (by omega))) (fun _ => ?_)
        refine r_aload_n hC 0 d_Mdepth_8 rfl rfl ?_
        refine r_getS hC 5 14 174 fl_M48 (by exact hV.k) d_Mdepth_9 rfl rfl (by exact (hV.rf 174 (by decide))) ?_
        refine r_iload_n hC 3 d_Mdepth_12 rfl rfl ?_
        refine r_iald hC (x) (hV.ak 174 (by decide)) rfl (by rw [hV.al 174 (by decide)]; exact (show x < mLn 174 from (by show x < 40; omega))) (by rw [hV.al 174 (by decide)]; decide) d_Mdepth_13 (hV.el 174 (by decide) (x)) ?_
        refine r_bipush hC 40 d_Mdepth_14 (by decide) ?_
        rw [hv]
        refine r_icmp_eq hC 32 d_Mdepth_16 (by decide) (fun z => absurd ((nI_eq (b := 40) (by omega) (by omega)).mp z) h3) (fun _ => ?_)
        refine r_aload_n hC 0 d_Mdepth_19 rfl rfl ?_
        refine r_getS hC 5 14 174 fl_M48 (by exact hV.k) d_Mdepth_20 rfl rfl (by exact (hV.rf 174 (by decide))) ?_
        refine r_iload_n hC 3 d_Mdepth_23 rfl rfl ?_
        refine r_iald hC (x) (hV.ak 174 (by decide)) rfl (by rw [hV.al 174 (by decide)]; exact (show x < mLn 174 from (by show x < 40; omega))) (by rw [hV.al 174 (by decide)]; decide) d_Mdepth_24 (hV.el 174 (by decide) (x)) ?_
        rw [hv]
        refine r_is3 hC d_Mdepth_25 ?_
        refine r_ii2 hC (nI (n + 1)) d_Mdepth_26 (nI_1 _) ?_
        refine r_goto hC 4 d_Mdepth_29 (by decide) ?_
        exact ih q (n + 1) h4 h6 (by omega)
  refine r_iconst hC 0 d_Mdepth_0 (by decide) ?_
  refine r_is2 hC d_Mdepth_1 ?_
  refine r_iload_n hC 1 d_Mdepth_2 rfl rfl ?_
  refine r_is3 hC d_Mdepth_3 ?_
  exact loop d o 0 ho ha (by omega)
theorem c_Mtop (l : Launch) (Θ : Glob) (M : Mem) (Y : Nat) (ar : Nat → Nat) (V : Nat → Nat → Int32) (I : Nat → Int32) (hV : MV M Y ar V I) (S : TS) (hS : TV V S) (hW : WF S) (o d t : Nat) (ho : th S o = true) (ha : anc S d o = some t) (ht : t = 0 ∨ t = 40) (hd : d ≤ 8) : Ct l Θ y_Mtop 1 0 0 [.ref Y, .int (nI o)] M (pI fun r M1 => (r = 0 ↔ t = 0) ∧ M1 = M) := by
  refine Ct.start (cc := b_Mtop) (nL := 3) (ret := (some .int)) [some (.ref Y), some (.int (nI o)), none] mi_Mtop.1 (by decide +kernel) (by intro v hv; simp at hv; rcases hv with rfl | rfl <;> rfl) (by simp) rfl (fun p e s m args below meth c hC => ?_)
  have loop : ∀ (c2 x : Nat), th S x = true → anc S c2 x = some t → Gj p l e (rmo 1 0 0) s m args below meth c Θ M [some (.ref Y), some (.int (nI o)), some (.int (nI x))] 0 0 (Fn below args s Θ 0 0 (pI fun r M1 => (r = 0 ↔ t = 0) ∧ M1 = M)) 2 [] := by
    intro c2
    induction c2 with
    | zero =>
      intro x hx hax
      have e : x = t := Option.some.inj hax
      have hx40 := hW.lt hx
      have t0 : t = 0 := by omega
      have x0 : x = 0 := by omega
      refine r_iload_n hC 2 d_Mtop_2 rfl rfl ?_
      refine r_if_eq hC 27 d_Mtop_3 (by decide) (fun _ => ?_) (fun z => absurd (by rw [x0]; rfl) z)
      refine r_iload_n hC 2 d_Mtop_27 rfl rfl ?_
      exact r_iret hC d_Mtop_28 (Nat.le_refl _) (Nat.le_refl _) ⟨_, rfl, ⟨fun _ => t0, fun _ => by rw [x0]; rfl⟩, rfl⟩
    | succ c2 ih =>
      intro x hx hax
      have hx40 := hW.lt hx
      rcases anc_p hW hx hax ht with ⟨-, h2, -⟩ | ⟨h1, h2, h3, h4⟩ | ⟨q, h1, h2, h3, h4, h5, h6⟩
      · omega
      · have hv := hS.2.1 x 40 h2
        refine r_iload_n hC 2 d_Mtop_2 rfl rfl ?_
        refine r_if_eq hC 27 d_Mtop_3 (by decide) (fun z => absurd z (nI_ne0 (by omega) (by omega))) (fun _ => ?_)
        refine r_aload_n hC 0 d_Mtop_6 rfl rfl ?_
        refine r_getS hC 5 14 174 fl_M48 (by exact hV.k) d_Mtop_7 rfl rfl (by exact (hV.rf 174 (by decide))) ?_
        refine r_iload_n hC 2 d_Mtop_10 rfl rfl ?_
        refine r_iald hC (x) (hV.ak 174 (by decide)) rfl (by rw [hV.al 174 (by decide)]; exact (show x < mLn 174 from (by show x < 40; omega))) (by rw [hV.al 174 (by decide)]; decide) d_Mtop_11 (hV.el 174 (by decide) (x)) ?_
        refine r_bipush hC 40 d_Mtop_12 (by decide) ?_
        rw [hv]
        refine r_icmp_eq hC 27 d_Mtop_14 (by decide) (fun _ => ?_) (fun z => absurd rfl z)
        refine r_iload_n hC 2 d_Mtop_27 rfl rfl ?_
        exact r_iret hC d_Mtop_28 (Nat.le_refl _) (Nat.le_refl _) ⟨_, rfl, ⟨fun z => absurd z (nI_ne0 (by omega) (by omega)), fun z => by omega⟩, rfl⟩
      · have hv := hS.2.1 x q h2
        have hq := hW.lt h4
        refine r_iload_n hC 2 d_Mtop_2 rfl rfl ?_
        refine r_if_eq hC 27 d_Mtop_3 (by decide) (fun z => absurd z (nI_ne0 (by omega) (by omega))) (fun _ => ?_)
        refine r_aload_n hC 0 d_Mtop_6 rfl rfl ?_
        refine r_getS hC 5 14 174 fl_M48 (by exact hV.k) d_Mtop_7 rfl rfl (by exact (hV.rf 174 (by decide))) ?_
        refine r_iload_n hC 2 d_Mtop_10 rfl rfl ?_
        refine r_iald hC (x) (hV.ak 174 (by decide)) rfl (by rw [hV.al 174 (by decide)]; exact (show x < mLn 174 from (by show x < 40; omega))) (by rw [hV.al 174 (by decide)]; decide) d_Mtop_11 (hV.el 174 (by decide) (x)) ?_
        refine r_bipush hC 40 d_Mtop_12 (by decide) ?_
        rw [hv]
        refine r_icmp_eq hC 27 d_Mtop_14 (by decide) (fun z => absurd ((nI_eq (b := 40) (by omega) (by omega)).mp z) h3) (fun _ => ?_)
        refine r_aload_n hC 0 d_Mtop_17 rfl rfl ?_
        refine r_getS hC 5 14 174 fl_M48 (by exact hV.k) d_Mtop_18 rfl rfl (by exact (hV.rf 174 (by decide))) ?_
        refine r_iload_n hC 2 d_Mtop_21 rfl rfl ?_
        refine r_iald hC (x) (hV.ak 174 (by decide)) rfl (by rw [hV.al 174 (by decide)]; exact (show x < mLn 174 from (by show x < 40; omega))) (by rw [hV.al 174 (by decide)]; decide) d_Mtop_22 (hV.el 174 (by decide) (x)) ?_
        rw [hv]
        refine r_is2 hC d_Mtop_23 ?_
        refine r_goto hC 2 d_Mtop_24 (by decide) ?_
        exact ih q h4 h6
  refine r_iload_n hC 1 d_Mtop_0 rfl rfl ?_
  refine r_is2 hC d_Mtop_1 ?_
  exact loop d o ho ha
theorem c_MisBelow (l : Launch) (Θ : Glob) (M : Mem) (Y : Nat) (ar : Nat → Nat) (V : Nat → Nat → Int32) (I : Nat → Int32) (hV : MV M Y ar V I) (S : TS) (hS : TV V S) (hW : WF S) (o v d t : Nat) (ho : th S o = true) (hv40 : v < 40) (ha : anc S d o = some t) (ht : t = 0 ∨ t = 40) (hd : d ≤ 8) : Ct l Θ y_MisBelow 1 0 0 [.ref Y, .int (nI o), .int (nI v)] M (pI fun r M1 => r = b2i (dm (∃ j, anc S j o = some v)) ∧ M1 = M) := by
  refine Ct.start (cc := b_MisBelow) (nL := 4) (ret := (some .boolean)) [some (.ref Y), some (.int (nI o)), some (.int (nI v)), none] mi_MisBelow.1 (by decide +kernel) (by intro v hv; simp at hv; rcases hv with rfl | rfl | rfl <;> rfl) (by simp) rfl (fun p e s m args below meth c hC => ?_)
  have loop : ∀ (c2 n x : Nat), th S x = true → anc S c2 x = some t → anc S n o = some x → (∀ j, j < n → anc S j o ≠ some v) → Gj p l e (rmo 1 0 0) s m args below meth c Θ M [some (.ref Y), some (.int (nI o)), some (.int (nI v)), some (.int (nI x))] 0 0 (Fn below args s Θ 0 0 (pI fun r M1 => r = b2i (dm (∃ j, anc S j o = some v)) ∧ M1 = M)) 2 [] := by
    have fin : ∀ (n x : Nat), th S x = true → anc S n o = some x → (∀ j, j < n → anc S j o ≠ some v) → (x = v ∨ ∀ j, n < j → anc S j o ≠ some v) → Gj p l e (rmo 1 0 0) s m args below meth c Θ M [some (.ref Y), some (.int (nI o)), some (.int (nI v)), some (.int (nI x))] 0 0 (Fn below args s Θ 0 0 (pI fun r M1 => r = b2i (dm (∃ j, anc S j o = some v)) ∧ M1 = M)) 32 [] := by
      intro n x hx hnx hno hor
      have hx40 := hW.lt hx
      refine r_iload_n hC 3 d_MisBelow_32 rfl rfl ?_
      refine r_iload_n hC 2 d_MisBelow_33 rfl rfl ?_
      refine r_icmp_ne hC 41 d_MisBelow_34 (by decide) (fun z => ?_) (fun z => ?_)
      · have hne : x ≠ v := fun q => z (by rw [q])
        have hnn : ¬ ∃ j, anc S j o = some v := fun ⟨j, hj⟩ => by
          rcases Nat.lt_trichotomy j n with q | q | q
          · exact hno j q hj
          · rw [q, hnx] at hj; exact hne (Option.some.inj hj)
          · exact (hor.resolve_left hne) j q hj
        rw [dm_f hnn]
        refine r_iconst hC 0 d_MisBelow_41 (by decide) ?_
        exact r_zret hC d_MisBelow_42 (Or.inl rfl) (Nat.le_refl _) (Nat.le_refl _) ⟨_, rfl, rfl, rfl⟩
      · have e := (nI_eq (by omega) (by omega)).mp z
        rw [dm_t ⟨n, by rw [hnx, e]⟩]
        refine r_iconst hC 1 d_MisBelow_37 (by decide) ?_
        refine r_goto hC 42 d_MisBelow_38 (by decide) ?_
        exact r_zret hC d_MisBelow_42 (Or.inr rfl) (Nat.le_refl _) (Nat.le_refl _) ⟨_, rfl, rfl, rfl⟩
    intro c2
    induction c2 with
    | zero =>
      intro n x hx hax hnx hno
      have e : x = t := Option.some.inj hax
      have hx40 := hW.lt hx
      have x0 : x = 0 := by omega
      refine r_iload_n hC 3 d_MisBelow_2 rfl rfl ?_
      refine r_if_eq hC 32 d_MisBelow_3 (by decide) (fun _ => fin n x hx hnx hno (Or.inr (fun j hj q => ?_))) (fun z => absurd (by rw [x0]; rfl) z)
      rw [x0] at hnx
      rw [anc_over hnx hW.p0 hj] at q
      cases q
    | succ c2 ih =>
      intro n x hx hax hnx hno
      have hx40 := hW.lt hx
      rcases anc_p hW hx hax ht with ⟨-, h2, -⟩ | ⟨h1, h2, h3, h4⟩ | ⟨q, h1, h2, h3, h4, h5, h6⟩
      · omega
      · have hv := hS.2.1 x 40 h2
        refine r_iload_n hC 3 d_MisBelow_2 rfl rfl ?_
        refine r_if_eq hC 32 d_MisBelow_3 (by decide) (fun z => absurd z (nI_ne0 (by omega) (by omega))) (fun _ => ?_)
        refine r_aload_n hC 0 d_MisBelow_6 rfl rfl ?_
        refine r_getS hC 5 14 174 fl_M48 (by exact hV.k) d_MisBelow_7 rfl rfl (by exact (hV.rf 174 (by decide))) ?_
        refine r_iload_n hC 3 d_MisBelow_10 rfl rfl ?_
        refine r_iald hC (x) (hV.ak 174 (by decide)) rfl (by rw [hV.al 174 (by decide)]; exact (show x < mLn 174 from (by show x < 40; omega))) (by rw [hV.al 174 (by decide)]; decide) d_MisBelow_11 (hV.el 174 (by decide) (x)) ?_
        refine r_bipush hC 40 d_MisBelow_12 (by decide) ?_
        rw [hv]
        refine r_icmp_eq hC 32 d_MisBelow_14 (by decide) (fun _ => fin n x hx hnx hno (Or.inr (fun j hj w => ?_))) (fun z => absurd rfl z)
        have h8 := anc_last hnx h2
        rcases Nat.lt_or_ge (n + 1) j with y | y
        · rw [anc_over h8 hW.p40 y] at w; cases w
        · have : j = n + 1 := by omega
          rw [this, h8] at w
          have := Option.some.inj w
          omega
      · have hv := hS.2.1 x q h2
        have hq := hW.lt h4
        refine r_iload_n hC 3 d_MisBelow_2 rfl rfl ?_
        refine r_if_eq hC 32 d_MisBelow_3 (by decide) (fun z => absurd z (nI_ne0 (by omega) (by omega))) (fun _ => ?_)
        refine r_aload_n hC 0 d_MisBelow_6 rfl rfl ?_
        refine r_getS hC 5 14 174 fl_M48 (by exact hV.k) d_MisBelow_7 rfl rfl (by exact (hV.rf 174 (by decide))) ?_
        refine r_iload_n hC 3 d_MisBelow_10 rfl rfl ?_
        refine r_iald hC (x) (hV.ak 174 (by decide)) rfl (by rw [hV.al 174 (by decide)]; exact (show x < mLn 174 from (by show x < 40; omega))) (by rw [hV.al 174 (by decide)]; decide) d_MisBelow_11 (hV.el 174 (by decide) (x)) ?_
        refine r_bipush hC 40 d_MisBelow_12 (by decide) ?_
        rw [hv]
        refine r_icmp_eq hC 32 d_MisBelow_14 (by decide) (fun z => absurd ((nI_eq (b := 40) (by omega) (by omega)).mp z) h3) (fun _ => ?_)
        refine r_iload_n hC 3 d_MisBelow_17 rfl rfl ?_
        refine r_iload_n hC 2 d_MisBelow_18 rfl rfl ?_
        refine r_icmp_eq hC 32 d_MisBelow_19 (by decide) (fun z => fin n x hx hnx hno (Or.inl ((nI_eq (by omega) (by omega)).mp z))) (fun z => ?_)
        refine r_aload_n hC 0 d_MisBelow_22 rfl rfl ?_
        refine r_getS hC 5 14 174 fl_M48 (by exact hV.k) d_MisBelow_23 rfl rfl (by exact (hV.rf 174 (by decide))) ?_
        refine r_iload_n hC 3 d_MisBelow_26 rfl rfl ?_
        refine r_iald hC (x) (hV.ak 174 (by decide)) rfl (by rw [hV.al 174 (by decide)]; exact (show x < mLn 174 from (by show x < 40; omega))) (by rw [hV.al 174 (by decide)]; decide) d_MisBelow_27 (hV.el 174 (by decide) (x)) ?_
        rw [hv]
        refine r_is3 hC d_MisBelow_28 ?_
        refine r_goto hC 2 d_MisBelow_29 (by decide) ?_
        refine ih (n + 1) q h4 h6 (anc_last hnx h2) (fun j hj w => ?_)
        rcases Nat.lt_or_ge j n with y | y
        · exact hno j y w
        · have : j = n := by omega
          rw [this, hnx] at w
          exact z (by rw [Option.some.inj w])
  refine r_iload_n hC 1 d_MisBelow_0 rfl rfl ?_
  refine r_is3 hC d_MisBelow_1 ?_
  exact loop d 0 o ho ha rfl (fun j hj => by omega)
theorem c_MplaceOf (l : Launch) (Θ : Glob) (M : Mem) (Y : Nat) (ar : Nat → Nat) (V : Nat → Nat → Int32) (I : Nat → Int32) (hV : MV M Y ar V I) (S : TS) (hS : TV V S) (q v : Nat) (hq : q ≤ 40) (x : Int32) (hx : ∀ y ∈ ki S q, x = nI y ↔ v = y) (hnd : (ki S q).Nodup) (hlen : (ki S q).length ≤ 39) : Ct l Θ y_MplaceOf 1 0 0 [.ref Y, .int x, .int (nI q)] M (pI fun r M1 => r = (if v ∈ ki S q then nI ((ki S q).idxOf v) else -1) ∧ M1 = M) := by
  refine Ct.start (cc := b_MplaceOf) (nL := 4) (ret := (some .int)) [some (.ref Y), some (.int x), some (.int (nI q)), none] mi_MplaceOf.1 (by decide +kernel) (by intro v hv; simp at hv; rcases hv with rfl | rfl | rfl <;> rfl) (by simp) rfl (fun p e s m args below meth c hC => ?_)
  have hkd := hS.2.2.2.1 q hq
  have loop : ∀ (c2 i : Nat), i + c2 = (ki S q).length → (∀ j y, j < i → (ki S q)[j]? = some y → v ≠ y) → Gj p l e (rmo 1 0 0) s m args below meth c Θ M [some (.ref Y), some (.int x), some (.int (nI q)), some (.int (nI i))] 0 0 (Fn below args s Θ 0 0 (pI fun r M1 => r = (if v ∈ ki S q then nI ((ki S q).idxOf v) else -1) ∧ M1 = M)) 2 [] := by
    intro c2
    induction c2 with
    | zero =>
      intro i hi hno
      have hi : i = (ki S q).length := hi
      have hnm : v ∉ ki S q := fun hm => by
        obtain ⟨j, hj, e⟩ := List.getElem_of_mem hm
        exact hno j v (by omega) (by rw [← e]; exact List.getElem?_eq_getElem hj) rfl
      rw [if_neg hnm]
      refine r_iload_n hC 3 d_MplaceOf_2 rfl rfl ?_
      refine r_aload_n hC 0 d_MplaceOf_3 rfl rfl ?_
      refine r_getS hC 5 16 176 fl_M54 (by exact hV.k) d_MplaceOf_4 rfl rfl (by exact (hV.rf 176 (by decide))) ?_
      refine r_iload_n hC 2 d_MplaceOf_7 rfl rfl ?_
      refine r_iald hC (q) (hV.ak 176 (by decide)) rfl (by rw [hV.al 176 (by decide)]; exact (show q < mLn 176 from (by show q < 41; omega))) (by rw [hV.al 176 (by decide)]; decide) d_MplaceOf_8 (hV.el 176 (by decide) (q)) ?_
      rw [hkd]
      refine r_icmp_ge hC 35 d_MplaceOf_9 (by decide) (fun _ => ?_) (fun z => absurd (nI_le (by omega) (by omega)) z)
      refine r_iconst hC (-1) d_MplaceOf_35 (by decide) ?_
      exact r_iret hC d_MplaceOf_36 (Nat.le_refl _) (Nat.le_refl _) ⟨_, rfl, rfl, rfl⟩
    | succ c2 ih =>
      intro i hi hno
      obtain ⟨y, hy, hym⟩ := get_some (l := ki S q) (i := i) (by omega)
      have hvy := hS.2.2.2.2 q i y hq hy
      refine r_iload_n hC 3 d_MplaceOf_2 rfl rfl ?_
      refine r_aload_n hC 0 d_MplaceOf_3 rfl rfl ?_
      refine r_getS hC 5 16 176 fl_M54 (by exact hV.k) d_MplaceOf_4 rfl rfl (by exact (hV.rf 176 (by decide))) ?_
      refine r_iload_n hC 2 d_MplaceOf_7 rfl rfl ?_
      refine r_iald hC (q) (hV.ak 176 (by decide)) rfl (by rw [hV.al 176 (by decide)]; exact (show q < mLn 176 from (by show q < 41; omega))) (by rw [hV.al 176 (by decide)]; decide) d_MplaceOf_8 (hV.el 176 (by decide) (q)) ?_
      rw [hkd]
      refine r_icmp_ge hC 35 d_MplaceOf_9 (by decide) (fun z => absurd z (nI_ge (by omega) (by omega))) (fun _ => ?_)
      refine r_aload_n hC 0 d_MplaceOf_12 rfl rfl ?_
      refine r_getS hC 5 17 177 fl_M57 (by exact hV.k) d_MplaceOf_13 rfl rfl (by exact (hV.rf 177 (by decide))) ?_
      refine r_bipush hC 40 d_MplaceOf_16 (by decide) ?_
      refine r_iload_n hC 2 d_MplaceOf_18 rfl rfl ?_
      refine r_imul hC (nI (40 * q)) d_MplaceOf_19 (pk_mul 40 q) ?_
      refine r_iload_n hC 3 d_MplaceOf_20 rfl rfl ?_
      refine r_iadd hC (nI (40 * q + i)) d_MplaceOf_21 (nI_add _ _) ?_
      refine r_iald hC (40 * q + i) (hV.ak 177 (by decide)) rfl (by rw [hV.al 177 (by decide)]; exact (show 40 * q + i < mLn 177 from (by show 40 * q + i < 1640; omega))) (by rw [hV.al 177 (by decide)]; decide) d_MplaceOf_22 (hV.el 177 (by decide) (40 * q + i)) ?_
      refine r_iload_n hC 1 d_MplaceOf_23 rfl rfl ?_
      rw [hvy]
      refine r_icmp_ne hC 29 d_MplaceOf_24 (by decide) (fun z => ?_) (fun z => ?_)
      · have hne : v ≠ y := fun e => z ((hx y hym).mpr e).symm
        refine r_ii3 hC (nI (i + 1)) d_MplaceOf_29 (nI_1 _) ?_
        refine r_goto hC 2 d_MplaceOf_32 (by decide) ?_
        refine ih (i + 1) (by omega) (fun j y2 hj hy2 => ?_)
        rcases Nat.lt_or_ge j i with a | a
        · exact hno j y2 a hy2
        · have : j = i := by omega
          rw [this, hy] at hy2
          rw [← Option.some.inj hy2]; exact hne
      · have e := (hx y hym).mp z.symm
        subst e
        have hix : (ki S q).idxOf v = i := ((idx_iff hnd hym).mp hy).symm
        rw [if_pos hym, hix]
        refine r_iload_n hC 3 d_MplaceOf_27 rfl rfl ?_
        exact r_iret hC d_MplaceOf_28 (Nat.le_refl _) (Nat.le_refl _) ⟨_, rfl, rfl, rfl⟩
  refine r_iconst hC 0 d_MplaceOf_0 (by decide) ?_
  refine r_is3 hC d_MplaceOf_1 ?_
  exact loop (ki S q).length 0 (by omega) (fun j y hj => by omega)
