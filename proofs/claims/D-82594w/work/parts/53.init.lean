theorem c_Pinit (l : Launch) (Θ : Glob) (M : Mem) (q oo : Nat) (v : Int32) (hk : kd M q = 2) : Ct l Θ y_Pinit 4 1 3 [.ref q, .int v] M (pV fun M1 => ∃ K, kd M K = 0 ∧ Lst M1 K [] 0 ∧ ow M1 K = oo ∧ Fr (fun b => b = q) M M1 ∧ fI M1 32 q = v ∧ fR M1 33 q = some K ∧ fR M1 34 q = fR M 34 q ∧ fR M1 35 q = fR M 35 q ∧ fI M1 36 q = fI M 36 q) := by
  refine Ct.start (cc := b_Pinit) (nL := 2) (ret := none) [some (.ref q), some (.int v)] mi_Pinit.1 (by decide +kernel) (by intro v hv; simp at hv; rcases hv with rfl | rfl <;> rfl) (by simp) rfl (fun p e s m args below meth c hC => ?_)
  refine r_empE (fun hE hlE => ?_)
  refine r_aload_n hC 0 d_Pinit_0 rfl rfl ?_
  refine r_objInit hC rfl lk_P1 ob_in ob_co d_Pinit_1 (Nat.le_of_ble_eq_true rfl) (Nat.le_of_ble_eq_true rfl) ?_
  refine r_aload_n hC 0 d_Pinit_4 rfl rfl ?_
  refine r_new hC 6 oo rfl cl_P7 nw_6.1 nw_6.2 d_Pinit_5 (Nat.le_of_ble_eq_true rfl) (Nat.le_of_ble_eq_true rfl) (fun K hK0 hKB => ?_)
  refine r_dup hC d_Pinit_8 rfl ?_
  refine r_cIv hC [] rfl (c_Ainit l Θ _ K (va_up_self _ _ _)) mi_Ainit lk_P9 in_Ainit rfl (Nat.le_of_ble_eq_true rfl) ⟨Nat.le_of_ble_eq_true rfl, Nat.le_of_ble_eq_true rfl⟩ ⟨Nat.le_of_ble_eq_true rfl, Nat.le_of_ble_eq_true rfl⟩ d_Pinit_9 (fun M3 h3 => ?_)
  obtain ⟨hL3, hoK3, f3⟩ := new_list hK0 hE hlE h3
  have q3 := f3.2 q (by omega) (fun z => z)
  have k3 : kd M3 q = 2 := q3.1.trans hk
  have hKq : K ≠ q := fun z => by rw [z] at hK0; omega
  refine r_putFR hC 1 1 33 fl_P10 rfl rfl rfl (by exact k3) d_Pinit_12 (v := (some K)) rfl rfl ?_
  refine r_aload_n hC 0 d_Pinit_15 rfl rfl ?_
  refine r_iload_n hC 1 d_Pinit_16 rfl rfl ?_
  refine r_putFI hC 1 0 32 fl_P16 rfl rfl rfl (by exact k3) d_Pinit_17 rfl rfl rfl rfl ?_
  have g4 := (sR_fr M3 33 q (some K)).trans (sI_fr (sR M3 33 q (some K)) 32 q v) (fun _ _ z => z)
  have hkK := hL3.1
  refine r_vret hC d_Pinit_20 (Nat.le_of_ble_eq_true rfl) (Nat.le_of_ble_eq_true rfl) ⟨rfl, K, hK0, ?_, hoK3, (f3.mono fun _ _ z => z.elim).trans g4 (fun _ _ z => z), up2_self _ _ _ _, up2_self _ _ _ _, q3.2.2.1 34, q3.2.2.1 35, q3.2.1 36⟩
  exact hL3.fr (g4.2 K (by omega) hKq) (fun b hb => g4.2 b (by omega) (one_ne hb k3 (by omega))) (fun b hb => g4.2 b (by omega) (one_ne hb k3 (by omega)))
theorem Fr.zero {Z : Nat → Prop} {M N : Mem} (h : Fr Z M N) {q : Nat} (hq : kd N q = 0) : kd M q = 0 := by
  rcases Nat.eq_zero_or_pos (kd M q) with z | z
  · exact z
  · have := (h.1 q (by omega)).1; omega
/-- places made so far -/
def IP (M : Mem) (pa li : Nat → Nat) (g SL : Nat) (S : Nat → Prop) : Prop :=
  (∀ o, S o → (kd M (pa o) = 2 ∧ ow M (pa o) = g ∧ fI M 32 (pa o) = oI o ∧ fR M 33 (pa o) = some (li o) ∧ fR M 34 (pa o) = none ∧ fR M 35 (pa o) = none ∧ fI M 36 (pa o) = 0) ∧ Lst M (li o) [] 0 ∧ ow M (li o) = g ∧ li o ≠ SL) ∧ ∀ a b, S a → S b → li a = li b → a = b
theorem IP.fr {Z : Nat → Prop} {M N : Mem} {pa li : Nat → Nat} {g SL : Nat} {S : Nat → Prop} (h : IP M pa li g SL S) (hf : Fr Z M N) (hz : ∀ b, Z b → kd M b ≠ 2 ∧ kd M b ≠ 7 ∧ kd M b < 1000 ∧ kd M b ≠ 30) : IP N pa li g SL S := by
  refine ⟨fun o ho => ?_, h.2⟩
  obtain ⟨⟨a1, a2, a3, a4, a5, a6, a7⟩, b1, b2, b3⟩ := h.1 o ho
  have hk := b1.1
  have q := hf.2 (pa o) (by omega) (fun z => (hz _ z).1 a1)
  have r := hf.2 (li o) (by omega) (fun z => (hz _ z).2.1 hk)
  exact ⟨⟨q.1.trans a1, q.2.2.2.2.2.2.trans a2, (q.2.1 32).trans a3, (q.2.2.1 33).trans a4, (q.2.2.1 34).trans a5, (q.2.2.1 35).trans a6, (q.2.1 36).trans a7⟩, b1.fr r (fun b hb => hf.2 b (by omega) (fun z => by have := (hz _ z).2.2.1; omega)) (fun b hb => hf.2 b (by omega) (fun z => (hz _ z).2.2.2 hb)), r.2.2.2.2.2.2.trans b2, b3⟩
/-- one place more: q made of M, with the list K -/
theorem IP.more {M N : Mem} {pa li : Nat → Nat} {g SL q K o : Nat} {S : Nat → Prop} (h : IP M pa li g SL S) (hf : Fr (fun _ => False) M N) (hkS : kd M SL ≠ 0) (hK0 : kd M K = 0) (hno : ¬ S o) (hq : kd N q = 2 ∧ ow N q = g ∧ fI N 32 q = oI o ∧ fR N 33 q = some K ∧ fR N 34 q = none ∧ fR N 35 q = none ∧ fI N 36 q = 0) (hL : Lst N K [] 0) (hoK : ow N K = g) : IP N (va_up pa o q) (va_up li o K) g SL (fun x => S x ∨ x = o) := by
  have h1 := h.fr hf (fun b z => z.elim)
  refine ⟨fun x hx => ?_, fun a b ha hb e => ?_⟩
  · by_cases e : x = o
    · rw [e, va_up_self, va_up_self]
      exact ⟨hq, hL, hoK, fun z => by rw [z] at hK0; exact hkS hK0⟩
    · rw [va_up_ne _ _ e, va_up_ne _ _ e]
      exact h1.1 x (hx.resolve_right e)
  · have nl : ∀ x, S x → li x ≠ K := fun x hx z => by
      have := (h.1 x hx).2.1.1
      rw [z] at this; omega
    by_cases ea : a = o
    · by_cases eb : b = o
      · rw [ea, eb]
      · rw [ea, va_up_self, va_up_ne _ _ eb] at e
        exact absurd e.symm (nl b (hb.resolve_right eb))
    · by_cases eb : b = o
      · rw [eb, va_up_self, va_up_ne _ _ ea] at e
        exact absurd e (nl a (ha.resolve_right ea))
      · rw [va_up_ne _ _ ea, va_up_ne _ _ eb] at e
        exact h.2 a b (ha.resolve_right ea) (hb.resolve_right eb) e
abbrev N0 : NS := (fun _ => false, fun _ => false, [], fun _ => 0, 0, 0, 0)
/-- the tree object while it is made -/
def TI (M : Mem) (T P B SL KN UD g : Nat) (pa : Nat → Nat) (i : Nat) : Prop :=
  (kd M T = 5 ∧ ow M T = g ∧ fR M 129 T = some P ∧ fR M 130 T = some B ∧ fR M 131 T = some SL ∧ fR M 132 T = some KN ∧ fR M 133 T = some UD ∧ fI M 134 T = 0 ∧ fI M 135 T = 0 ∧ fI M 136 T = 0) ∧ (kd M P = 23 ∧ ow M P = g ∧ ln M P = 40 ∧ ∀ o, o < i → eR M P o = some (pa o)) ∧ (Lst M SL [] 0 ∧ ow M SL = g) ∧
  (kd M KN = 24 ∧ ow M KN = g ∧ ln M KN = 301 ∧ ∀ j, eR M KN j = none) ∧ (kd M UD = 21 ∧ ow M UD = g ∧ ln M UD = 301 ∧ ∀ j, eI M UD j = 0)
theorem TI.fr {Z : Nat → Prop} {M N : Mem} {T P B SL KN UD g i : Nat} {pa : Nat → Nat} (h : TI M T P B SL KN UD g pa i) (hf : Fr Z M N) (hz : ∀ b, Z b → kd M b = 2) : TI N T P B SL KN UD g pa i := by
  obtain ⟨⟨a1, a2, a3, a4, a5, a6, a7, a8, a9, a10⟩, ⟨b1, b2, b3, b4⟩, ⟨c1, c2⟩, ⟨d1, d2, d3, d4⟩, ⟨e1, e2, e3, e4⟩⟩ := h
  have hk := c1.1
  have qT := hf.2 T (by omega) (fun z => by have := hz _ z; omega)
  have qP := hf.2 P (by omega) (fun z => by have := hz _ z; omega)
  have qS := hf.2 SL (by omega) (fun z => by have := hz _ z; omega)
  have qK := hf.2 KN (by omega) (fun z => by have := hz _ z; omega)
  have qU := hf.2 UD (by omega) (fun z => by have := hz _ z; omega)
  exact ⟨⟨qT.1.trans a1, qT.2.2.2.2.2.2.trans a2, (qT.2.2.1 129).trans a3, (qT.2.2.1 130).trans a4, (qT.2.2.1 131).trans a5, (qT.2.2.1 132).trans a6, (qT.2.2.1 133).trans a7, (qT.2.1 134).trans a8, (qT.2.1 135).trans a9, (qT.2.1 136).trans a10⟩, ⟨qP.1.trans b1, qP.2.2.2.2.2.2.trans b2, qP.2.2.2.1.trans b3, fun o ho => by rw [qP.2.2.2.2.2.1]; exact b4 o ho⟩, ⟨c1.fr qS (fun b hb => hf.2 b (by omega) (fun z => by have := hz _ z; omega)) (fun b hb => hf.2 b (by omega) (fun z => by have := hz _ z; omega)), qS.2.2.2.2.2.2.trans c2⟩, ⟨qK.1.trans d1, qK.2.2.2.2.2.2.trans d2, qK.2.2.2.1.trans d3, fun j => by rw [qK.2.2.2.2.2.1]; exact d4 j⟩, ⟨qU.1.trans e1, qU.2.2.2.2.2.2.trans e2, qU.2.2.2.1.trans e3, fun j => by rw [qU.2.2.2.2.1]; exact e4 j⟩⟩
/-- all made: a node that knows nothing -/
theorem TI.done {M : Mem} {T P SL KN UD g : Nat} {pa li : Nat → Nat} {R : Nat → RowT} {ra sa : Nat → Nat} (h : TI M T P (pa 40) SL KN UD g pa 40) (hI : IP M pa li g SL (fun o => o ≤ 40)) : NDS (sI M 36 (pa 0) 1) (g, T, P, SL, KN, UD, pa, li) R ra sa N0 := by
  obtain ⟨⟨a1, a2, a3, a4, a5, a6, a7, a8, a9, a10⟩, ⟨b1, b2, b3, b4⟩, ⟨c1, c2⟩, ⟨d1, d2, d3, d4⟩, ⟨e1, e2, e3, e4⟩⟩ := h
  have hf := sI_fr M 36 (pa 0) 1
  have k0 : kd M (pa 0) = 2 := (hI.1 0 (Nat.zero_le _)).1.1
  have nz : ∀ x, kd M x ≠ 2 → x ≠ pa 0 := fun x hx z => by rw [z] at hx; exact hx k0
  have pinj : ∀ o, o ≤ 40 → pa o = pa 0 → o = 0 := fun o ho z => by
    have h1 := (hI.1 o ho).1.2.2.1
    have h2 := (hI.1 0 (Nat.zero_le _)).1.2.2.1
    rw [z, h2] at h1
    exact (oI_inj (by omega) ho h1).symm
  have hls : ∀ a xs cap, Lst M a xs cap → Lst (sI M 36 (pa 0) 1) a xs cap := fun a xs cap hL => hL.fr (hf.2 a (by have := hL.1; omega) (nz _ (by have := hL.1; omega))) (fun b hb => hf.2 b (by omega) (nz _ (by omega))) (fun b hb => hf.2 b (by omega) (nz _ (by omega)))
  refine ⟨⟨⟨⟨a1, a3, a4, a5, a6, a7, b1, b3, b4⟩, hls _ _ _ c1, (fun i hi => by cases hi), fun o ho => (hI.1 o ho).2.2.2, (fun i hi => by cases hi), (by show 0 ≤ 300; omega)⟩, ⟨fun o ho => ?_, fun o ho => hls _ _ _ (hI.1 o ho).2.1, hI.2⟩, fun o ho => Or.inl rfl, SD.nil, ⟨a2, b2, c2, fun o ho => ⟨(hI.1 o ho).1.2.1, (hI.1 o ho).2.2.1⟩⟩, (fun i hi => by cases hi)⟩, ⟨d1, d3, d2, fun i _ => d4 i⟩, ⟨e1, e3, e2, fun i _ => e4 i⟩, ⟨a8, a9, a10⟩, ⟨(fun i hi => by cases hi), (fun i j hi => by cases hi)⟩, fun i => ⟨(fun hi => by cases hi), (fun hi => by cases hi.1)⟩⟩
  obtain ⟨p1, p2, p3, p4, p5, p6, p7⟩ := (hI.1 o ho).1
  refine ⟨p1, p3, p4, p5, p6, ?_⟩
  show up2 (fI M) 36 (pa 0) 1 36 (pa o) = b2i (decide (o = 0))
  by_cases e : o = 0
  · rw [e, up2_self]; rfl
  · rw [up2_ne _ _ (fun z => e (pinj o ho z.2)), p7, decide_eq_false e]; rfl
theorem c_Tinit (l : Launch) (Θ : Glob) (M : Mem) (T g : Nat) (v : Int32) (hk : kd M T = 5) (ho : ow M T = g) (h0 : fI M 134 T = 0 ∧ fI M 135 T = 0 ∧ fI M 136 T = 0) (R : Nat → RowT) (ra sa : Nat → Nat) : Ct l Θ y_Tinit 6 90 1000 [.ref T, .int v] M (pV fun M1 => ∃ d, nG d = g ∧ nT d = T ∧ NDS M1 d R ra sa N0 ∧ Fr (fun b => b = T) M M1) := by
  refine Ct.start (cc := b_Tinit) (nL := 3) (ret := none) [some (.ref T), some (.int v), none] mi_Tinit.1 (by decide +kernel) (by intro v hv; simp at hv; rcases hv with rfl | rfl <;> rfl) (by simp) rfl (fun p e s m args below meth c hC => ?_)
  have loop : ∀ (r i : Nat) (M1 : Mem) (cl sl P SL KN UD : Nat) (pa li : Nat → Nat), i + r = 40 → TI M1 T P (pa 40) SL KN UD g pa i → IP M1 pa li g SL (fun o => o < i ∨ o = 40) → (∀ o, o < i ∨ o = 40 → kd M (pa o) = 0) → kd M P = 0 → Fr (fun b => b = T) M M1 → cl ≤ 6 + 2 * i → sl ≤ 653 + 8 * i → Gj p l e (rmo 6 90 1000) s m args below meth c Θ M1 [some (.ref T), some (.int v), some (.int (nI i))] cl sl (Fn below args s Θ 90 1000 (pV fun M1 => ∃ d, nG d = g ∧ nT d = T ∧ NDS M1 d R ra sa N0 ∧ Fr (fun b => b = T) M M1)) 62 [] := by
    intro r
    induction r with
    | zero =>
      intro i M1 cl sl P SL KN UD pa li hi hT hI hfr hPf hF hcl hsl
      have hi : i = 40 := hi
      subst hi
      have hI2 : IP M1 pa li g SL (fun o => o ≤ 40) := ⟨fun o ho => hI.1 o (by omega), fun a b ha hb => hI.2 a b (by omega) (by omega)⟩
      have k0 := (hI2.1 0 (by omega)).1.1
      have hd := TI.done (R := R) (ra := ra) (sa := sa) hT hI2
      refine r_iload_n hC 2 d_Tinit_62 rfl rfl ?_
      refine r_bipush hC 40 d_Tinit_63 (by decide) ?_
      refine r_icmp_ge hC 88 d_Tinit_65 (by decide) (fun _ => ?_) (fun z => absurd (Int32.le_refl _) z)
      refine r_aload_n hC 0 d_Tinit_88 rfl rfl ?_
      refine r_getS hC 4 1 129 fl_T11 (by exact hT.1.1) d_Tinit_89 rfl rfl (by exact hT.1.2.2.1) ?_
      refine r_iconst hC 0 d_Tinit_92 (by decide) ?_
      refine r_aaldS hC 3 0 (by rw [hT.2.1.1]; rfl) (by omega) rfl (by rw [hT.2.1.2.2.1]; omega) (by rw [hT.2.1.2.2.1]; omega) d_Tinit_93 (hT.2.1.2.2.2 0 (by omega)) ?_
      refine r_iconst hC 1 d_Tinit_94 (by decide) ?_
      refine r_putI hC 1 4 36 fl_T45 rfl (by exact k0) d_Tinit_95 rfl rfl rfl rfl ?_
      refine r_vret hC d_Tinit_98 (by omega) (by omega) ⟨rfl, (g, T, P, SL, KN, UD, pa, li), rfl, rfl, hd, ?_⟩
      refine hF.trans (sI_fr M1 36 (pa 0) 1) (fun b hb z => ?_)
      have z : b = pa 0 := z
      rw [z] at hb
      exact absurd (hfr 0 (by omega)) hb
    | succ r ih =>
      intro i M1 cl sl P SL KN UD pa li hi hT hI hfr hPf hF hcl hsl
      refine r_iload_n hC 2 d_Tinit_62 rfl rfl ?_
      refine r_bipush hC 40 d_Tinit_63 (by decide) ?_
      refine r_icmp_ge hC 88 d_Tinit_65 (by decide) (fun z => absurd z (nI_ge (b := 40) (by omega) (by omega))) (fun _ => ?_)
      refine r_aload_n hC 0 d_Tinit_68 rfl rfl ?_
      refine r_getS hC 4 1 129 fl_T11 (by exact hT.1.1) d_Tinit_69 rfl rfl (by exact hT.1.2.2.1) ?_
      refine r_iload_n hC 2 d_Tinit_72 rfl rfl ?_
      refine r_new hC 1 g rfl cl_T9 nw_1.1 nw_1.2 d_Tinit_73 (by show cl + 1 ≤ 90; omega) (by show sl + 5 ≤ 1000; omega) (fun q hq0 hqB => ?_)
      refine r_dup hC d_Tinit_76 rfl ?_
      refine r_iload_n hC 2 d_Tinit_77 rfl rfl ?_
      refine r_cIv hC [.int (nI i)] rfl (c_Pinit l Θ _ q g (nI i) (va_up_self _ _ _)) mi_Pinit lk_T17 in_Pinit rfl (Nat.le_of_ble_eq_true rfl) ⟨Nat.le_of_ble_eq_true rfl, Nat.le_of_ble_eq_true rfl⟩ ⟨by show cl + 1 + 1 ≤ 90; omega, by show sl + 5 + 3 ≤ 1000; omega⟩ d_Tinit_78 (fun M3 h3 => ?_)
      obtain ⟨K, hK0, hLK, hoK, g3, r1, r2, r3, r4, r5⟩ := h3
      have f2 : Fr (fun _ => False) M1 (nwO M1 q 2 g) := nwO_fr hq0
      have f3 : Fr (fun _ => False) M1 M3 := f2.trans g3 (fun b hb z => by have z : b = q := z; rw [z] at hb; exact hb hq0)
      have kq : kd M3 q = 2 := g3.k (va_up_self _ _ _)
      have oq : ow M3 q = g := (g3.1 q (by show va_up (kd M1) q 2 q ≠ 0; rw [va_up_self]; omega)).2.trans (va_up_self _ _ _)
      have hT3 := hT.fr f3 (fun b z => z.elim)
      have hkS := hT.2.2.1.1.1
      have hI3 := hI.more f3 (by omega) (f2.zero hK0) (by omega) ⟨kq, oq, r1.trans (if_neg (by omega)).symm, r2, r3.trans (if_pos rfl), r4.trans (if_pos rfl), r5.trans (if_pos rfl)⟩ hLK hoK
      refine r_aast hC 3 1 i as_31 kq (by rw [hT3.2.1.1]; rfl) (by omega) rfl (by rw [hT3.2.1.2.2.1]; omega) (by rw [hT3.2.1.2.2.1]; omega) d_Tinit_81 ?_
      have g4 := sER_fr M3 P i (some q)
      have kP := hT3.2.1.1
      have hI4 := hI3.fr g4 (fun b z => by have z : b = P := z; rw [z]; omega)
      have hF4 : Fr (fun b => b = T) M (sER M3 P i (some q)) := (hF.trans f3 (fun _ _ z => z.elim)).trans g4 (fun b hb z => by have z : b = P := z; rw [z] at hb; exact absurd hPf hb)
      have e40 : va_up pa i q 40 = pa 40 := va_up_ne _ _ (by omega)
      have hT4 : TI (sER M3 P i (some q)) T P (va_up pa i q 40) SL KN UD g (va_up pa i q) (i + 1) := by
        rw [e40]
        obtain ⟨t1, ⟨u1, u2, u3, u4⟩, ⟨v1, v2⟩, ⟨w1, w2, w3, w4⟩, x1⟩ := hT3
        have hkv := v1.1
        refine ⟨t1, ⟨u1, u2, u3, fun o ho => ?_⟩, ⟨v1.fr (g4.2 SL (by omega) (one_ne hkv kP (by omega))) (fun b hb => g4.2 b (by omega) (one_ne hb kP (by omega))) (fun b hb => g4.2 b (by omega) (one_ne hb kP (by omega))), v2⟩, ⟨w1, w2, w3, fun j => ?_⟩, x1⟩
        · show up2 (eR M3) P i (some q) P o = _
          by_cases e : o = i
          · rw [e, up2_self, va_up_self]
          · rw [up2_ne _ _ (fun z => e z.2), va_up_ne _ _ e]; exact u4 o (by omega)
        · show up2 (eR M3) P i (some q) KN j = none
          rw [up2_ne _ _ (fun z => one_ne w1 kP (by omega) z.1)]; exact w4 j
      refine r_ii2 hC (nI (i + 1)) d_Tinit_82 (nI_1 _) ?_
      refine r_goto hC 62 d_Tinit_85 (by decide) ?_
      refine ih (i + 1) _ _ _ P SL KN UD (va_up pa i q) (va_up li i K) (by omega) hT4 ⟨fun o ho => hI4.1 o (by omega), fun a b ha hb => hI4.2 a b (by omega) (by omega)⟩ (fun o ho => ?_) hPf hF4 (by show cl + 1 + 1 ≤ 6 + 2 * (i + 1); omega) (by show sl + 5 + 3 ≤ 653 + 8 * (i + 1); omega)
      by_cases e : o = i
      · rw [e, va_up_self]; exact hF.zero hq0
      · rw [va_up_ne _ _ e]; exact hfr o (by omega)
  refine r_empE (fun hE hlE => ?_)
  refine r_aload_n hC 0 d_Tinit_0 rfl rfl ?_
  refine r_objInit hC rfl lk_T3 ob_in ob_co d_Tinit_1 (Nat.le_of_ble_eq_true rfl) (Nat.le_of_ble_eq_true rfl) ?_
  refine r_aload_n hC 0 d_Tinit_4 rfl rfl ?_
  refine r_bipush hC 40 d_Tinit_5 (by decide) ?_
  refine r_anew hC 3 23 40 g rfl rfl (by omega) cl_T9 ao_P rfl (by omega) d_Tinit_7 (Nat.le_of_ble_eq_true rfl) (Nat.le_of_ble_eq_true rfl) (fun P hP0 hPB => ?_)
  have hTP : T ≠ P := fun z => by rw [z] at hk; omega
  have f1 : Fr (fun _ => False) M (nwR M P 23 40 g) := nwR_fr hP0
  have k1 : kd (nwR M P 23 40 g) T = 5 := f1.k hk
  have p1 : kd (nwR M P 23 40 g) P = 23 := va_up_self _ _ _
  have p2 : ow (nwR M P 23 40 g) P = g := va_up_self _ _ _
  have p3 : ln (nwR M P 23 40 g) P = 40 := va_up_self _ _ _
  have o1 : ow (nwR M P 23 40 g) T = g := (f1.1 T (by omega)).2.trans ho
  have z1 : fI (nwR M P 23 40 g) 134 T = 0 ∧ fI (nwR M P 23 40 g) 135 T = 0 ∧ fI (nwR M P 23 40 g) 136 T = 0 := h0
  generalize nwR M P 23 40 g = M1 at *
  refine r_putFR hC 4 1 129 fl_T11 rfl rfl rfl (by exact k1) d_Tinit_10 (v := (some P)) rfl rfl ?_
  refine r_aload_n hC 0 d_Tinit_13 rfl rfl ?_
  have F2 : Fr (fun b => b = T) M (sR M1 129 T (some P)) := (f1.mono fun _ _ z => z.elim).trans (sR_fr _ _ _ _) (fun _ _ z => z)
  have t129 : fR (sR M1 129 T (some P)) 129 T = some P := up2_self _ _ _ _
  have k2 : kd (sR M1 129 T (some P)) T = 5 := k1
  have o2 : ow (sR M1 129 T (some P)) T = g := o1
  have z2 : fI (sR M1 129 T (some P)) 134 T = 0 ∧ fI (sR M1 129 T (some P)) 135 T = 0 ∧ fI (sR M1 129 T (some P)) 136 T = 0 := z1
  have p21 : kd (sR M1 129 T (some P)) P = 23 := p1
  have p22 : ow (sR M1 129 T (some P)) P = g := p2
  have p23 : ln (sR M1 129 T (some P)) P = 40 := p3
  generalize sR M1 129 T (some P) = M2 at *
  refine r_new hC 1 g rfl cl_T9 nw_1.1 nw_1.2 d_Tinit_14 (Nat.le_of_ble_eq_true rfl) (Nat.le_of_ble_eq_true rfl) (fun B hB0 hBB => ?_)
  refine r_dup hC d_Tinit_17 rfl ?_
  refine r_iconst hC (-1) d_Tinit_18 (by decide) ?_
  refine r_cIv hC [.int (-1)] rfl (c_Pinit l Θ _ B g (-1) (va_up_self _ _ _)) mi_Pinit lk_T17 in_Pinit rfl (Nat.le_of_ble_eq_true rfl) ⟨Nat.le_of_ble_eq_true rfl, Nat.le_of_ble_eq_true rfl⟩ ⟨Nat.le_of_ble_eq_true rfl, Nat.le_of_ble_eq_true rfl⟩ d_Tinit_19 (fun M3 h3 => ?_)
  obtain ⟨K, hK0, hLK, hoK, g3, r1, r2, r3, r4, r5⟩ := h3
  have f2 : Fr (fun _ => False) M2 (nwO M2 B 2 g) := nwO_fr hB0
  have f3 : Fr (fun _ => False) M2 M3 := f2.trans g3 (fun b hb z => by have z : b = B := z; rw [z] at hb; exact hb hB0)
  have kB : kd M3 B = 2 := g3.k (va_up_self _ _ _)
  have oB : ow M3 B = g := (g3.1 B (by show va_up (kd M2) B 2 B ≠ 0; rw [va_up_self]; omega)).2.trans (va_up_self _ _ _)
  have q3 := f3.2 T (by omega) (fun z => z)
  have qP3 := f3.2 P (by omega) (fun z => z)
  have k3 : kd M3 T = 5 := q3.1.trans k2
  have hBf : kd M B = 0 := F2.zero hB0
  refine r_putFR hC 4 2 130 fl_T20 rfl rfl rfl (by exact k3) d_Tinit_22 (v := (some B)) rfl rfl ?_
  have g4 := sR_fr M3 130 T (some B)
  have F4 : Fr (fun b => b = T) M (sR M3 130 T (some B)) := (F2.trans f3 (fun _ _ z => z.elim)).trans g4 (fun _ _ z => z)
  have t4 : fR (sR M3 130 T (some B)) 129 T = some P ∧ fR (sR M3 130 T (some B)) 130 T = some B := ⟨(q3.2.2.1 129).trans t129, up2_self _ _ _ _⟩
  have k4 : kd (sR M3 130 T (some B)) T = 5 := k3
  have o4 : ow (sR M3 130 T (some B)) T = g := q3.2.2.2.2.2.2.trans o2
  have z4 : fI (sR M3 130 T (some B)) 134 T = 0 ∧ fI (sR M3 130 T (some B)) 135 T = 0 ∧ fI (sR M3 130 T (some B)) 136 T = 0 := ⟨(q3.2.1 134).trans z2.1, (q3.2.1 135).trans z2.2.1, (q3.2.1 136).trans z2.2.2⟩
  have p4 : kd (sR M3 130 T (some B)) P = 23 ∧ ow (sR M3 130 T (some B)) P = g ∧ ln (sR M3 130 T (some B)) P = 40 := ⟨qP3.1.trans p21, qP3.2.2.2.2.2.2.trans p22, qP3.2.2.2.1.trans p23⟩
  have hI4 : ∀ SL, K ≠ SL → IP (sR M3 130 T (some B)) (fun _ => B) (fun _ => K) g SL (fun o => o = 40) := fun SL hKS => by
    have hkK := hLK.1
    refine ⟨fun o ho => ?_, fun a b ha hb _ => by rw [show a = 40 from ha, show b = 40 from hb]⟩
    have ho : o = 40 := ho
    rw [ho]
    refine ⟨⟨kB, oB, r1, ?_, ?_, ?_, r5.trans (if_pos rfl)⟩, ?_, hoK, hKS⟩
    · exact r2
    · exact r3.trans (if_pos rfl)
    · exact r4.trans (if_pos rfl)
    · exact hLK.fr (g4.2 K (by omega) (one_ne hkK k3 (by omega))) (fun b hb => g4.2 b (by omega) (one_ne hb k3 (by omega))) (fun b hb => g4.2 b (by omega) (one_ne hb k3 (by omega)))
  have kK4 : kd (sR M3 130 T (some B)) K = 7 := hLK.1
  have hE4 : kd (sR M3 130 T (some B)) Θ.E = 30 ∧ ln (sR M3 130 T (some B)) Θ.E = 0 := by
    have qE := F4.2 Θ.E (by omega) (one_ne hE hk (by omega))
    exact ⟨qE.1.trans hE, qE.2.2.2.1.trans hlE⟩
  generalize sR M3 130 T (some B) = M4 at *
  refine r_aload_n hC 0 d_Tinit_25 rfl rfl ?_
  refine r_new hC 6 g rfl cl_T24 nw_6.1 nw_6.2 d_Tinit_26 (Nat.le_of_ble_eq_true rfl) (Nat.le_of_ble_eq_true rfl) (fun SL hS0 hSB => ?_)
  refine r_dup hC d_Tinit_29 rfl ?_
  refine r_cIv hC [] rfl (c_Ainit l Θ _ SL (va_up_self _ _ _)) mi_Ainit lk_T26 in_Ainit rfl (Nat.le_of_ble_eq_true rfl) ⟨Nat.le_of_ble_eq_true rfl, Nat.le_of_ble_eq_true rfl⟩ ⟨Nat.le_of_ble_eq_true rfl, Nat.le_of_ble_eq_true rfl⟩ d_Tinit_30 (fun M5 h5 => ?_)
  obtain ⟨hL5, hoS5, f5⟩ := new_list hS0 hE4.1 hE4.2 h5
  have hI5 := (hI4 SL (fun z => by rw [z] at kK4; omega)).fr f5 (fun b z => z.elim)
  have q5 := f5.2 T (by omega) (fun z => z)
  have qP5 := f5.2 P (by omega) (fun z => z)
  have k5 : kd M5 T = 5 := q5.1.trans k4
  refine r_putFR hC 4 3 131 fl_T27 rfl rfl rfl (by exact k5) d_Tinit_33 (v := (some SL)) rfl rfl ?_
  have g6 := sR_fr M5 131 T (some SL)
  have F6 : Fr (fun b => b = T) M (sR M5 131 T (some SL)) := (F4.trans f5 (fun _ _ z => z.elim)).trans g6 (fun _ _ z => z)
  have t6 : fR (sR M5 131 T (some SL)) 129 T = some P ∧ fR (sR M5 131 T (some SL)) 130 T = some B ∧ fR (sR M5 131 T (some SL)) 131 T = some SL := ⟨(q5.2.2.1 129).trans t4.1, (q5.2.2.1 130).trans t4.2, up2_self _ _ _ _⟩
  have k6 : kd (sR M5 131 T (some SL)) T = 5 := k5
  have o6 : ow (sR M5 131 T (some SL)) T = g := q5.2.2.2.2.2.2.trans o4
  have z6 : fI (sR M5 131 T (some SL)) 134 T = 0 ∧ fI (sR M5 131 T (some SL)) 135 T = 0 ∧ fI (sR M5 131 T (some SL)) 136 T = 0 := ⟨(q5.2.1 134).trans z4.1, (q5.2.1 135).trans z4.2.1, (q5.2.1 136).trans z4.2.2⟩
  have p6 : kd (sR M5 131 T (some SL)) P = 23 ∧ ow (sR M5 131 T (some SL)) P = g ∧ ln (sR M5 131 T (some SL)) P = 40 := ⟨qP5.1.trans p4.1, qP5.2.2.2.2.2.2.trans p4.2.1, qP5.2.2.2.1.trans p4.2.2⟩
  have kS5 := hL5.1
  have hL6 : Lst (sR M5 131 T (some SL)) SL [] 0 := hL5.fr (g6.2 SL (by omega) (one_ne kS5 k5 (by omega))) (fun b hb => g6.2 b (by omega) (one_ne hb k5 (by omega))) (fun b hb => g6.2 b (by omega) (one_ne hb k5 (by omega)))
  have oS6 : ow (sR M5 131 T (some SL)) SL = g := hoS5
  have hI6 := hI5.fr g6 (fun b z => by have z : b = T := z; rw [z]; omega)
  generalize sR M5 131 T (some SL) = M6 at *
  refine r_aload_n hC 0 d_Tinit_36 rfl rfl ?_
  refine r_sipush hC 301 d_Tinit_37 (by decide) ?_
  refine r_anew hC 4 24 301 g rfl rfl (by omega) cl_T31 ao_S rfl (by omega) d_Tinit_40 (Nat.le_of_ble_eq_true rfl) (Nat.le_of_ble_eq_true rfl) (fun KN hN0 hNB => ?_)
  have f7 : Fr (fun _ => False) M6 (nwR M6 KN 24 301 g) := nwR_fr hN0
  have k7 : kd (nwR M6 KN 24 301 g) T = 5 := f7.k k6
  have n7 : kd (nwR M6 KN 24 301 g) KN = 24 ∧ ow (nwR M6 KN 24 301 g) KN = g ∧ ln (nwR M6 KN 24 301 g) KN = 301 ∧ ∀ j, eR (nwR M6 KN 24 301 g) KN j = none := ⟨va_up_self _ _ _, va_up_self _ _ _, va_up_self _ _ _, fun j => by show va_up (eR M6) KN _ KN j = none; rw [va_up_self]⟩
  have q7 := f7.2 T (by omega) (fun z => z)
  have qP7 := f7.2 P (by omega) (fun z => z)
  have qS7 := f7.2 SL (by have := hL6.1; omega) (fun z => z)
  generalize nwR M6 KN 24 301 g = M7 at *
  refine r_putFR hC 4 4 132 fl_T33 rfl rfl rfl (by exact k7) d_Tinit_43 (v := (some KN)) rfl rfl ?_
  refine r_aload_n hC 0 d_Tinit_46 rfl rfl ?_
  refine r_sipush hC 301 d_Tinit_47 (by decide) ?_
  have g8 := sR_fr M7 132 T (some KN)
  have f8 : Fr (fun b => b = T) M6 (sR M7 132 T (some KN)) := (f7.mono fun _ _ z => z.elim).trans g8 (fun _ _ z => z)
  have t8 : fR (sR M7 132 T (some KN)) 129 T = some P ∧ fR (sR M7 132 T (some KN)) 130 T = some B ∧ fR (sR M7 132 T (some KN)) 131 T = some SL ∧ fR (sR M7 132 T (some KN)) 132 T = some KN := ⟨(q7.2.2.1 129).trans t6.1, (q7.2.2.1 130).trans t6.2.1, (q7.2.2.1 131).trans t6.2.2, up2_self _ _ _ _⟩
  have k8 : kd (sR M7 132 T (some KN)) T = 5 := k7
  have o8 : ow (sR M7 132 T (some KN)) T = g := q7.2.2.2.2.2.2.trans o6
  have z8 : fI (sR M7 132 T (some KN)) 134 T = 0 ∧ fI (sR M7 132 T (some KN)) 135 T = 0 ∧ fI (sR M7 132 T (some KN)) 136 T = 0 := ⟨(q7.2.1 134).trans z6.1, (q7.2.1 135).trans z6.2.1, (q7.2.1 136).trans z6.2.2⟩
  have n8 : kd (sR M7 132 T (some KN)) KN = 24 ∧ ow (sR M7 132 T (some KN)) KN = g ∧ ln (sR M7 132 T (some KN)) KN = 301 ∧ ∀ j, eR (sR M7 132 T (some KN)) KN j = none := n7
  generalize sR M7 132 T (some KN) = M8 at *
  refine r_newaZ hC 301 g ac_boolean rfl (by omega) d_Tinit_50 (Nat.le_of_ble_eq_true rfl) (Nat.le_of_ble_eq_true rfl) (fun UD hD0 hDB => ?_)
  have f9 : Fr (fun _ => False) M8 (nwA M8 UD 21 301 g) := nwA_fr hD0
  have k9 : kd (nwA M8 UD 21 301 g) T = 5 := f9.k k8
  have d9 : kd (nwA M8 UD 21 301 g) UD = 21 ∧ ow (nwA M8 UD 21 301 g) UD = g ∧ ln (nwA M8 UD 21 301 g) UD = 301 ∧ ∀ j, eI (nwA M8 UD 21 301 g) UD j = 0 := ⟨va_up_self _ _ _, va_up_self _ _ _, va_up_self _ _ _, fun j => by show va_up (eI M8) UD _ UD j = 0; rw [va_up_self]⟩
  have q9 := f9.2 T (by omega) (fun z => z)
  have qN9 := f9.2 KN (by omega) (fun z => z)
  generalize nwA M8 UD 21 301 g = M9 at *
  refine r_putFR hC 4 5 133 fl_T37 rfl rfl rfl (by exact k9) d_Tinit_52 (v := (some UD)) rfl rfl ?_
  refine r_aload_n hC 0 d_Tinit_55 rfl rfl ?_
  refine r_iload_n hC 1 d_Tinit_56 rfl rfl ?_
  refine r_putFI hC 4 0 128 fl_T41 rfl rfl rfl (by exact k9) d_Tinit_57 rfl rfl rfl rfl ?_
  refine r_iconst hC 0 d_Tinit_60 (by decide) ?_
  refine r_is2 hC d_Tinit_61 ?_
  have g10 : Fr (fun b => b = T) M9 (sI (sR M9 133 T (some UD)) 128 T v) := (sR_fr _ _ _ _).trans (sI_fr _ _ _ _) (fun _ _ z => z)
  have f10 : Fr (fun b => b = T) M6 (sI (sR M9 133 T (some UD)) 128 T v) := (f8.trans f9 (fun _ _ z => z.elim)).trans g10 (fun _ _ z => z)
  have qP10 := f10.2 P (by omega) (one_ne p6.1 k6 (by omega))
  have kS6 := hL6.1
  have qS10 := f10.2 SL (by omega) (one_ne kS6 k6 (by omega))
  have tN : KN ≠ T := one_ne qN9.1 (by omega : kd M9 T = 5) (by rw [n8.1]; omega)
  have qN10 := g10.2 KN (by rw [qN9.1, n8.1]; omega) tN
  have qD10 := g10.2 UD (by omega) (one_ne d9.1 k9 (by omega))
  have hTI : TI (sI (sR M9 133 T (some UD)) 128 T v) T P B SL KN UD g (fun _ => B) 0 := by
    refine ⟨⟨k9, q9.2.2.2.2.2.2.trans o8, (q9.2.2.1 129).trans t8.1, (q9.2.2.1 130).trans t8.2.1, (q9.2.2.1 131).trans t8.2.2.1, (q9.2.2.1 132).trans t8.2.2.2, up2_self _ _ _ _, (q9.2.1 134).trans z8.1, (q9.2.1 135).trans z8.2.1, (q9.2.1 136).trans z8.2.2⟩, ⟨qP10.1.trans p6.1, qP10.2.2.2.2.2.2.trans p6.2.1, qP10.2.2.2.1.trans p6.2.2, fun o ho => absurd ho (Nat.not_lt_zero _)⟩, ⟨?_, qS10.2.2.2.2.2.2.trans oS6⟩, ⟨qN10.1.trans (qN9.1.trans n8.1), qN10.2.2.2.2.2.2.trans (qN9.2.2.2.2.2.2.trans n8.2.1), qN10.2.2.2.1.trans (qN9.2.2.2.1.trans n8.2.2.1), fun j => by rw [qN10.2.2.2.2.2.1, qN9.2.2.2.2.2.1]; exact n8.2.2.2 j⟩, ⟨qD10.1.trans d9.1, qD10.2.2.2.2.2.2.trans d9.2.1, qD10.2.2.2.1.trans d9.2.2.1, fun j => by rw [qD10.2.2.2.2.1]; exact d9.2.2.2 j⟩⟩
    exact hL6.fr qS10 (fun b hb => f10.2 b (by omega) (one_ne hb k6 (by omega))) (fun b hb => f10.2 b (by omega) (one_ne hb k6 (by omega)))
  have hI10 := hI6.fr f10 (fun b z => by have z : b = T := z; rw [z]; omega)
  have F10 : Fr (fun b => b = T) M (sI (sR M9 133 T (some UD)) 128 T v) := F6.trans f10 (fun _ _ z => z)
  exact loop 40 0 _ _ _ P SL KN UD (fun _ => B) (fun _ => K) rfl hTI ⟨fun o ho => hI10.1 o (by omega), fun a b ha hb => hI10.2 a b (by omega) (by omega)⟩ (fun o _ => hBf) hP0 F10 (by show 0 + 1 + 1 + 1 + 1 + 0 + 1 + 1 ≤ 6 + 0; omega) (by show 0 + 40 + 5 + 3 + 3 + 0 + 301 + 301 ≤ 653 + 0; omega)
