abbrev R0 : Nat → RowT := fun _ => (0, 0, 0, 0, none, none)
abbrev G0 : GS := (0, R0, 1, fun _ => N0)
theorem unF_0 (i : Nat) : unF G0 i = false := dm_f (fun ⟨u, u1, u2, _⟩ => by have u2 : u ≤ 0 := u2; omega)
theorem GI.zero : GI G0 := by
  refine ⟨⟨by show 0 ≤ 300; omega, fun i => ⟨Nat.le_refl _, by show 0 < 4; omega, by show 0 < 5; omega⟩, fun i h1 h2 => ?_, fun i h1 h2 => ?_, fun i j h1 h2 => ?_, fun i j h1 h2 => ?_⟩, ⟨Nat.le_refl _, by show 1 ≤ 40; omega⟩, fun k hk => ⟨(fun i hi => by cases hi), List.Pairwise.nil, fun i => ⟨(fun hi => by cases hi), (fun hi => by cases hi.1)⟩, fun t => ⟨(fun ht => by cases ht), fun ⟨u, hu, _⟩ => by cases hu⟩, Nat.le_refl _, Nat.le_refl _⟩, fun k hk i h1 h2 => ?_, fun k hk => ⟨(fun i hi => by cases hi), rfl⟩, fun i h1 h2 => ?_, fun o h1 h2 => ?_⟩
  · have h2 : i ≤ 0 := h2
    omega
  · have h2 : i ≤ 0 := h2
    omega
  · have h2 : i ≤ 0 := h2
    omega
  · have h2 : i ≤ 0 := h2
    omega
  · have h2 : i ≤ 0 := h2
    omega
  · have h2 : i ≤ 0 := h2
    omega
  · have h2 : o < 1 := h2
    omega
/-- the head while the trees are made -/
def BHi (M : Mem) (X RL TA UN : Nat) (D : Nat → NdA) (i : Nat) : Prop :=
  (kd M X = 1 ∧ ow M X = 10 ∧ fR M 0 X = some RL ∧ fR M 1 X = some TA ∧ fR M 2 X = some UN ∧ fI M 3 X = 1) ∧ (Lst M RL [] 0 ∧ ow M RL = 10) ∧ (kd M TA = 25 ∧ ow M TA = 10 ∧ ln M TA = 4 ∧ ∀ k, k < i → eR M TA k = some (nT (D k))) ∧ (kd M UN = 21 ∧ ow M UN = 10 ∧ ln M UN = 301 ∧ ∀ j, eI M UN j = 0)
theorem BHi.fr {M N : Mem} {X RL TA UN : Nat} {D : Nat → NdA} {i : Nat} (h : BHi M X RL TA UN D i) (hf : Fr (fun _ => False) M N) : BHi N X RL TA UN D i := by
  obtain ⟨⟨a1, a2, a3, a4, a5, a6⟩, ⟨b1, b2⟩, ⟨c1, c2, c3, c4⟩, ⟨e1, e2, e3, e4⟩⟩ := h
  have hk := b1.1
  have q1 := hf.2 X (by omega) (fun z => z)
  have q2 := hf.2 RL (by omega) (fun z => z)
  have q3 := hf.2 TA (by omega) (fun z => z)
  have q4 := hf.2 UN (by omega) (fun z => z)
  exact ⟨⟨q1.1.trans a1, q1.2.2.2.2.2.2.trans a2, (q1.2.2.1 0).trans a3, (q1.2.2.1 1).trans a4, (q1.2.2.1 2).trans a5, (q1.2.1 3).trans a6⟩, ⟨b1.fr q2 (fun q hq => hf.2 q (by omega) (fun z => z)) (fun q hq => hf.2 q (by omega) (fun z => z)), q2.2.2.2.2.2.2.trans b2⟩, ⟨q3.1.trans c1, q3.2.2.2.2.2.2.trans c2, q3.2.2.2.1.trans c3, fun k hk => by rw [q3.2.2.2.2.2.1]; exact c4 k hk⟩, ⟨q4.1.trans e1, q4.2.2.2.2.2.2.trans e2, q4.2.2.2.1.trans e3, fun j => by rw [q4.2.2.2.2.1]; exact e4 j⟩⟩
theorem c_Binit (l : Launch) (Θ : Glob) (M : Mem) (X : Nat) (hk : kd M X = 1) (ho : ow M X = 10) : Ct l Θ y_Binit 7 400 5000 [.ref X] M (pV fun M1 => (∃ A, BT M1 X A G0) ∧ Fr (fun b => b = X) M M1) := by
  refine Ct.start (cc := b_Binit) (nL := 2) (ret := none) [some (.ref X), none] mi_Binit.1 (by decide +kernel) (by intro v hv; simp at hv; rcases hv with rfl <;> rfl) (by simp) rfl (fun p e s m args below meth c hC => ?_)
  have ff : ∀ (M : Mem) g, For M g (fun _ => False) := fun M g => ⟨fun _ z => z.elim, fun _ _ z => z.elim, fun _ z => z.elim⟩
  have loop : ∀ (r i : Nat) (M1 : Mem) (cl sl RL TA UN : Nat) (D : Nat → NdA), i + r = 4 → BHi M1 X RL TA UN D i → (∀ k, k < i → nG (D k) = k + 1 ∧ NDS M1 (D k) R0 (fun _ => 0) (fun _ => 0) N0) → kd M TA = 0 → Fr (fun b => b = X) M M1 → cl ≤ 3 + 91 * i → sl ≤ 308 + 1009 * i → Gj p l e (rmo 7 400 5000) s m args below meth c Θ M1 [some (.ref X), some (.int (nI i))] cl sl (Fn below args s Θ 400 5000 (pV fun M1 => (∃ A, BT M1 X A G0) ∧ Fr (fun b => b = X) M M1)) 39 [] := by
    intro r
    induction r with
    | zero =>
      intro i M1 cl sl RL TA UN D hi hH hN hTA hF hcl hsl
      have hi : i = 4 := hi
      subst hi
      refine r_iload_n hC 1 d_Binit_39 rfl rfl ?_
      refine r_iconst hC 4 d_Binit_40 (by decide) ?_
      refine r_icmp_ge hC 64 d_Binit_41 (by decide) (fun _ => ?_) (fun z => absurd (Int32.le_refl _) z)
      refine r_vret hC d_Binit_64 (by omega) (by omega) ⟨rfl, ⟨(RL, TA, UN, (fun _ => 0), D, fun _ _ => 0), ⟨hH.1, hH.2.1, hH.2.2.1, ⟨hH.2.2.2.1, hH.2.2.2.2.1, hH.2.2.2.2.2.1, fun i _ => ?_⟩⟩, (fun i h1 h2 => ?_), fun k hk => (hN k hk).1, fun k hk => (hN k hk).2⟩, hF⟩
      · rw [unF_0]; exact hH.2.2.2.2.2.2 i
      · have h2 : i ≤ 0 := h2
        omega
    | succ r ih =>
      intro i M1 cl sl RL TA UN D hi hH hN hTA hF hcl hsl
      refine r_iload_n hC 1 d_Binit_39 rfl rfl ?_
      refine r_iconst hC 4 d_Binit_40 (by decide) ?_
      refine r_icmp_ge hC 64 d_Binit_41 (by decide) (fun z => absurd z (nI_ge (b := 4) (by omega) (by omega))) (fun _ => ?_)
      refine r_aload_n hC 0 d_Binit_44 rfl rfl ?_
      refine r_getS hC 0 1 1 fl_B18 (by exact hH.1.1) d_Binit_45 rfl rfl (by exact hH.1.2.2.2.1) ?_
      refine r_iload_n hC 1 d_Binit_48 rfl rfl ?_
      refine r_new hC 4 (i + 1) rfl cl_B16 nw_4.1 nw_4.2 d_Binit_49 (by show cl + 1 ≤ 400; omega) (by show sl + 9 ≤ 5000; omega) (fun T hT0 hTB => ?_)
      refine r_dup hC d_Binit_52 rfl ?_
      refine r_iload_n hC 1 d_Binit_53 rfl rfl ?_
      refine r_cIv hC [.int (nI i)] rfl (c_Tinit l Θ (nwO M1 T 5 (i + 1)) T (i + 1) (nI i) (va_up_self _ _ _) (va_up_self _ _ _) ⟨if_pos rfl, if_pos rfl, if_pos rfl⟩ R0 (fun _ => 0) (fun _ => 0)) mi_Tinit lk_B30 in_Tinit rfl (Nat.le_of_ble_eq_true rfl) ⟨Nat.le_of_ble_eq_true rfl, Nat.le_of_ble_eq_true rfl⟩ ⟨by show cl + 1 + 90 ≤ 400; omega, by show sl + 9 + 1000 ≤ 5000; omega⟩ d_Binit_54 (fun M3 h3 => ?_)
      obtain ⟨d, hdg, hdT, hdN, g3⟩ := h3
      have f3 : Fr (fun _ => False) M1 M3 := (nwO_fr hT0).trans g3 (fun b hb z => by have z : b = T := z; rw [z] at hb; exact hb hT0)
      have hH3 := hH.fr f3
      have kT : kd M3 T = 5 := g3.k (va_up_self _ _ _)
      have kA := hH3.2.2.1.1
      refine r_aast hC 5 4 i as_54 kT (by rw [kA]; rfl) (by omega) rfl (by rw [hH3.2.2.1.2.2.1]; omega) (by rw [hH3.2.2.1.2.2.1]; omega) d_Binit_57 ?_
      have g4 := sER_fr M3 TA i (some T)
      have hfor : ∀ g, g ≠ 10 → For M3 g (fun b => b = TA) := fun g hg => ⟨fun b z _ => by have z : b = TA := z; rw [z, hH3.2.2.1.2.1]; exact Ne.symm hg, fun b a z h1 _ => by have z : b = TA := z; rw [z] at h1; omega, fun b z => by have z : b = TA := z; rw [z]; omega⟩
      have hH4 : BHi (sER M3 TA i (some T)) X RL TA UN (va_up D i d) (i + 1) := by
        obtain ⟨x1, ⟨b1, b2⟩, ⟨c1, c2, c3, c4⟩, x4⟩ := hH3
        have kR := b1.1
        refine ⟨x1, ⟨b1.fr (g4.2 RL (by omega) (one_ne kR kA (by omega))) (fun b hb => g4.2 b (by omega) (one_ne hb kA (by omega))) (fun b hb => g4.2 b (by omega) (one_ne hb kA (by omega))), b2⟩, ⟨c1, c2, c3, fun k hk => ?_⟩, x4⟩
        show up2 (eR M3) TA i (some T) TA k = some (nT (va_up D i d k))
        by_cases e : k = i
        · rw [e, up2_self, va_up_self, hdT]
        · rw [up2_ne _ _ (fun z => e z.2), va_up_ne _ _ e]; exact c4 k (by omega)
      have hF4 : Fr (fun b => b = X) M (sER M3 TA i (some T)) := (hF.trans f3 (fun _ _ z => z.elim)).trans g4 (fun b hb z => by have z : b = TA := z; rw [z] at hb; exact absurd hTA hb)
      refine r_ii1 hC (nI (i + 1)) d_Binit_58 (nI_1 _) ?_
      refine r_goto hC 39 d_Binit_61 (by decide) ?_
      refine ih (i + 1) _ _ _ RL TA UN (va_up D i d) (by omega) hH4 (fun k hk => ?_) hTA hF4 (by show cl + 1 + 90 ≤ 3 + 91 * (i + 1); omega) (by show sl + 9 + 1000 ≤ 308 + 1009 * (i + 1); omega)
      by_cases e : k = i
      · rw [e, va_up_self]
        exact ⟨hdg, hdN.fr g4 (hfor _ (by rw [hdg]; omega))⟩
      · rw [va_up_ne _ _ e]
        obtain ⟨n1, n2⟩ := hN k (by omega)
        exact ⟨n1, (n2.fr f3 (ff _ _)).fr g4 (hfor _ (by rw [n1]; omega))⟩
  refine r_empE (fun hE hlE => ?_)
  refine r_aload_n hC 0 d_Binit_0 rfl rfl ?_
  refine r_objInit hC rfl lk_B1 ob_in ob_co d_Binit_1 (Nat.le_of_ble_eq_true rfl) (Nat.le_of_ble_eq_true rfl) ?_
  refine r_aload_n hC 0 d_Binit_4 rfl rfl ?_
  refine r_new hC 6 10 rfl cl_B7 nw_6.1 nw_6.2 d_Binit_5 (Nat.le_of_ble_eq_true rfl) (Nat.le_of_ble_eq_true rfl) (fun RL hR0 hRB => ?_)
  refine r_dup hC d_Binit_8 rfl ?_
  refine r_cIv hC [] rfl (c_Ainit l Θ _ RL (va_up_self _ _ _)) mi_Ainit lk_B9 in_Ainit rfl (Nat.le_of_ble_eq_true rfl) ⟨Nat.le_of_ble_eq_true rfl, Nat.le_of_ble_eq_true rfl⟩ ⟨Nat.le_of_ble_eq_true rfl, Nat.le_of_ble_eq_true rfl⟩ d_Binit_9 (fun M1 h1 => ?_)
  obtain ⟨hL1, hoR1, f1⟩ := new_list hR0 hE hlE h1
  have q1 := f1.2 X (by omega) (fun z => z)
  have k1 : kd M1 X = 1 := q1.1.trans hk
  have kR1 := hL1.1
  refine r_putFR hC 0 0 0 fl_B10 rfl rfl rfl (by exact k1) d_Binit_12 (v := (some RL)) rfl rfl ?_
  refine r_aload_n hC 0 d_Binit_15 rfl rfl ?_
  refine r_iconst hC 4 d_Binit_16 (by decide) ?_
  have g2 := sR_fr M1 0 X (some RL)
  have F2 : Fr (fun b => b = X) M (sR M1 0 X (some RL)) := (f1.mono fun _ _ z => z.elim).trans g2 (fun _ _ z => z)
  have k2 : kd (sR M1 0 X (some RL)) X = 1 ∧ ow (sR M1 0 X (some RL)) X = 10 ∧ fR (sR M1 0 X (some RL)) 0 X = some RL := ⟨k1, q1.2.2.2.2.2.2.trans ho, up2_self _ _ _ _⟩
  have hL2 : Lst (sR M1 0 X (some RL)) RL [] 0 := hL1.fr (g2.2 RL (by omega) (one_ne kR1 k1 (by omega))) (fun b hb => g2.2 b (by omega) (one_ne hb k1 (by omega))) (fun b hb => g2.2 b (by omega) (one_ne hb k1 (by omega)))
  have oR2 : ow (sR M1 0 X (some RL)) RL = 10 := hoR1
  generalize sR M1 0 X (some RL) = M2 at *
  refine r_anew hC 5 25 4 10 rfl rfl (by omega) cl_B16 ao_T rfl (by omega) d_Binit_17 (Nat.le_of_ble_eq_true rfl) (Nat.le_of_ble_eq_true rfl) (fun TA hA0 hAB => ?_)
  have f3 : Fr (fun _ => False) M2 (nwR M2 TA 25 4 10) := nwR_fr hA0
  have a3 : kd (nwR M2 TA 25 4 10) TA = 25 ∧ ow (nwR M2 TA 25 4 10) TA = 10 ∧ ln (nwR M2 TA 25 4 10) TA = 4 := ⟨va_up_self _ _ _, va_up_self _ _ _, va_up_self _ _ _⟩
  have q3 := f3.2 X (by omega) (fun z => z)
  have k3 : kd (nwR M2 TA 25 4 10) X = 1 := q3.1.trans k2.1
  have hTAf := F2.zero hA0
  generalize nwR M2 TA 25 4 10 = M3 at *
  refine r_putFR hC 0 1 1 fl_B18 rfl rfl rfl (by exact k3) d_Binit_20 (v := (some TA)) rfl rfl ?_
  refine r_aload_n hC 0 d_Binit_23 rfl rfl ?_
  refine r_sipush hC 301 d_Binit_24 (by decide) ?_
  have f4 : Fr (fun b => b = X) M2 (sR M3 1 X (some TA)) := (f3.mono fun _ _ z => z.elim).trans (sR_fr _ _ _ _) (fun _ _ z => z)
  have k4 : kd (sR M3 1 X (some TA)) X = 1 ∧ ow (sR M3 1 X (some TA)) X = 10 ∧ fR (sR M3 1 X (some TA)) 0 X = some RL ∧ fR (sR M3 1 X (some TA)) 1 X = some TA := ⟨k3, q3.2.2.2.2.2.2.trans k2.2.1, (q3.2.2.1 0).trans k2.2.2, up2_self _ _ _ _⟩
  have a4 : kd (sR M3 1 X (some TA)) TA = 25 ∧ ow (sR M3 1 X (some TA)) TA = 10 ∧ ln (sR M3 1 X (some TA)) TA = 4 := a3
  generalize sR M3 1 X (some TA) = M4 at *
  refine r_newaZ hC 301 10 ac_boolean rfl (by omega) d_Binit_27 (Nat.le_of_ble_eq_true rfl) (Nat.le_of_ble_eq_true rfl) (fun UN hU0 hUB => ?_)
  have f5 : Fr (fun _ => False) M4 (nwA M4 UN 21 301 10) := nwA_fr hU0
  have u5 : kd (nwA M4 UN 21 301 10) UN = 21 ∧ ow (nwA M4 UN 21 301 10) UN = 10 ∧ ln (nwA M4 UN 21 301 10) UN = 301 ∧ ∀ j, eI (nwA M4 UN 21 301 10) UN j = 0 := ⟨va_up_self _ _ _, va_up_self _ _ _, va_up_self _ _ _, fun j => by show va_up (eI M4) UN _ UN j = 0; rw [va_up_self]⟩
  have q5 := f5.2 X (by omega) (fun z => z)
  have qA5 := f5.2 TA (by omega) (fun z => z)
  have k5 : kd (nwA M4 UN 21 301 10) X = 1 := q5.1.trans k4.1
  generalize nwA M4 UN 21 301 10 = M5 at *
  refine r_putFR hC 0 2 2 fl_B22 rfl rfl rfl (by exact k5) d_Binit_29 (v := (some UN)) rfl rfl ?_
  refine r_aload_n hC 0 d_Binit_32 rfl rfl ?_
  refine r_iconst hC 1 d_Binit_33 (by decide) ?_
  refine r_putI hC 0 3 3 fl_B26 rfl (by exact k5) d_Binit_34 rfl rfl rfl rfl ?_
  refine r_iconst hC 0 d_Binit_37 (by decide) ?_
  refine r_is1 hC d_Binit_38 ?_
  have g6 : Fr (fun b => b = X) M5 (sI (sR M5 2 X (some UN)) 3 X 1) := (sR_fr _ _ _ _).trans (sI_fr _ _ _ _) (fun _ _ z => z)
  have f6 : Fr (fun b => b = X) M2 (sI (sR M5 2 X (some UN)) 3 X 1) := (f4.trans f5 (fun _ _ z => z.elim)).trans g6 (fun _ _ z => z)
  have kR2 := hL2.1
  have qR6 := f6.2 RL (by omega) (one_ne kR2 k2.1 (by omega))
  have kA5 : kd M5 TA = 25 := qA5.1.trans a4.1
  have qA6 := g6.2 TA (by omega) (one_ne kA5 k5 (by omega))
  have qU6 := g6.2 UN (by omega) (one_ne u5.1 k5 (by omega))
  have hH : BHi (sI (sR M5 2 X (some UN)) 3 X 1) X RL TA UN (fun _ => (0, 0, 0, 0, 0, 0, fun _ => 0, fun _ => 0)) 0 := by
    refine ⟨⟨k5, q5.2.2.2.2.2.2.trans k4.2.1, (q5.2.2.1 0).trans k4.2.2.1, (q5.2.2.1 1).trans k4.2.2.2, up2_self _ _ _ _, up2_self _ _ _ _⟩, ⟨?_, qR6.2.2.2.2.2.2.trans oR2⟩, ⟨qA6.1.trans kA5, qA6.2.2.2.2.2.2.trans (qA5.2.2.2.2.2.2.trans a4.2.1), qA6.2.2.2.1.trans (qA5.2.2.2.1.trans a4.2.2), fun k hk => absurd hk (Nat.not_lt_zero _)⟩, ⟨qU6.1.trans u5.1, qU6.2.2.2.2.2.2.trans u5.2.1, qU6.2.2.2.1.trans u5.2.2.1, fun j => by rw [qU6.2.2.2.2.1]; exact u5.2.2.2 j⟩⟩
    exact hL2.fr qR6 (fun b hb => f6.2 b (by omega) (one_ne hb k2.1 (by omega))) (fun b hb => f6.2 b (by omega) (one_ne hb k2.1 (by omega)))
  exact loop 4 0 _ _ _ RL TA UN _ rfl hH (fun k hk => absurd hk (Nat.not_lt_zero _)) hTAf (F2.trans f6 (fun _ _ z => z)) (by show 0 + 1 + 0 + 1 + 1 ≤ 3 + 0; omega) (by show 0 + 3 + 0 + 4 + 301 ≤ 308 + 0; omega)
