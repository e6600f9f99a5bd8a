def nU4 (R : Nat → RowT) (L : List Nat) : List Nat := L.filter (fun i => decide (rS (R i) ≠ 4))
theorem nU4_app (R : Nat → RowT) (A B : List Nat) : nU4 R (A ++ B) = nU4 R A ++ nU4 R B := List.filter_append ..
theorem nU4_eq {R : Nat → RowT} {n : Nat} {N : NS} (hR : RI R n) (h : NI R n N) : nU4 R (lkL R (vK N) n) = vN N := by
  refine srt_uni (List.Pairwise.filter _ (lkL_srt hR (vK N) n (Nat.le_refl _))) h.2.1 (fun i => ?_)
  unfold nU4
  rw [List.mem_filter, lkL_mem, h.2.2.1 i]
  constructor
  · rintro ⟨⟨-, -, a⟩, b⟩; exact ⟨a, of_decide_eq_true b⟩
  · rintro ⟨a, b⟩; exact ⟨⟨(h.1 i a).1, (h.1 i a).2, a⟩, decide_eq_true b⟩
theorem unK_eq {R : Nat → RowT} {n : Nat} {N : NS} (h : NI R n N) (r : Nat) : dm (unK n R (vK N) r) = vU N r := by
  have e : unK n R (vK N) r ↔ vU N r = true := by
    rw [h.2.2.2.1 r]
    constructor
    · rintro ⟨u, u1, u2, u3, u4, u5⟩; exact ⟨u, u5, u3, u4⟩
    · rintro ⟨u, u1, u2, u3⟩; exact ⟨u, (h.1 u u1).1, (h.1 u u1).2, u2, u3, u1⟩
  cases hv : vU N r with
  | true => exact dm_t (e.mpr hv)
  | false => exact dm_f (fun w => by rw [e.mp w] at hv; cases hv)
theorem GI.thb {G : GS} (h : GI G) {k : Nat} (hk : k < 4) {l : List Nat} (hl : ∀ i ∈ l, i ∈ vN (qD G k)) (x : Nat) (hx : th (rn (qR G) (vU (qD G k)) tS0 l) x = true) : x < qO G := by
  rcases rn_th hx with h1 | ⟨i, hi, h2, h3⟩
  · have : x = 0 := by simpa [tS0, th] using h1
    have := h.2.1.1
    omega
  · have h4 := ((h.2.2.1 k hk).2.2.1 i).mp (hl i hi)
    have h5 := (h.2.2.1 k hk).1 i h4.1
    have := (h.2.2.2.2.2.1 i h5.1 h5.2 h4.2).1
    omega
/-- built: the tree of node k, and how its rows fared -/
def BV (V : Nat → Nat → Int32) (G : GS) (k : Nat) : Prop := TV V (tr G k) ∧ ∀ i, 1 ≤ i → i ≤ qN G → V 178 i = nI (hwF (qR G) (qD G k) i)
/-- the model holds G -/
def MG (V : Nat → Nat → Int32) (I : Nat → Int32) (G : GS) : Prop := MR V I (qN G) (qR G) (fun k => vK (qD G k)) ∧ I 168 = nI (qO G) ∧ ∀ k, k < 4 → V 170 k = nI (vT (qD G k)) ∧ V 171 k = nI (vO (qD G k))
def MO (M : Mem) (Y : Nat) (ar : Nat → Nat) (G : GS) : Prop := ∃ V I, MV M Y ar V I ∧ MG V I G ∧ (I 172 = -1 ∨ ∃ k, k < 4 ∧ I 172 = nI k ∧ BV V G k)
theorem MG.cg {V W : Nat → Nat → Int32} {I J : Nat → Int32} {G : GS} (h : MG V I G) (hV : ∀ f, f < 173 → ∀ j, W f j = V f j) (hI : J 161 = I 161 ∧ J 168 = I 168) : MG W J G :=
  ⟨h.1.cg (fun f hf j => hV f (by omega) j) hI.1, hI.2.trans h.2.1, fun k hk => by rw [hV 170 (by omega), hV 171 (by omega)]; exact h.2.2 k hk⟩
theorem c_Mbuild (l : Launch) (Θ : Glob) (M : Mem) (Y : Nat) (ar : Nat → Nat) (V : Nat → Nat → Int32) (I : Nat → Int32) (hV : MV M Y ar V I) (G : GS) (hG : GI G) (hM : MG V I G) (hB : I 172 = -1 ∨ ∃ k, k < 4 ∧ I 172 = nI k ∧ BV V G k) (kk : Nat) (hk : kk < 4) : Ct l Θ y_Mbuild 6 0 0 [.ref Y, .int (nI kk)] M (pV fun N => ∃ V2 I2, MV N Y ar V2 I2 ∧ MG V2 I2 G ∧ I2 172 = nI kk ∧ BV V2 G kk ∧ Fr (MZ M) M N) := by
  have hn3 := hG.1.1
  have hob := hG.2.1
  have hNI := hG.2.2.1 kk hk
  have hLeq := nU4_eq hG.1 hNI
  have hLmem := lkL_mem (qR G) (vK (qD G kk)) (qN G)
  have hLnd := (lkL_srt hG.1 (vK (qD G kk)) (qN G) (Nat.le_refl _)).nd
  have hnok := NI.ok hG.1 hNI
  have hi1 : I 161 = nI (qN G) := hM.1.1
  refine Ct.start (cc := b_Mbuild) (nL := 4) (ret := none) [some (.ref Y), some (.int (nI kk)), none, none] mi_Mbuild.1 (by decide +kernel) (by intro v hv; simp at hv; rcases hv with rfl | rfl <;> rfl) (by simp) rfl (fun p e s m args below meth c hC => ?_)
  have main : ∀ (L2 L1 : List Nat) (M1 : Mem) (V1 : Nat → Nat → Int32) (I1 : Nat → Int32) (a3 : Option Value), lkL (qR G) (vK (qD G kk)) (qN G) = L1 ++ L2 → OV V1 I1 (L1 ++ L2) → TV V1 (rn (qR G) (vU (qD G kk)) tS0 (nU4 (qR G) L1)) → (∀ i, 1 ≤ i → i ≤ qN G → V1 178 i = nI (if i ∈ L1 then hwF (qR G) (qD G kk) i else 0)) → MV M1 Y ar V1 I1 → (∀ f, f < 173 → ∀ j, V1 f j = V f j) → (I1 161 = I 161 ∧ I1 168 = I 168 ∧ I1 172 = nI kk) → Fr (MZ M) M M1 → Gj p l e (rmo 6 0 0) s m args below meth c Θ M1 [some (.ref Y), some (.int (nI kk)), some (.int (nI L1.length)), a3] 0 0 (Fn below args s Θ 0 0 (pV fun N => ∃ V2 I2, MV N Y ar V2 I2 ∧ MG V2 I2 G ∧ I2 172 = nI kk ∧ BV V2 G kk ∧ Fr (MZ M) M N)) 108 [] := by
    intro L2
    induction L2 with
    | nil =>
      intro L1 M1 V1 I1 a3 hL hO hT hh hV1 hof hoi hF
      rw [List.append_nil] at hL hO
      obtain ⟨hO1, hO2⟩ := hO
      refine r_iload_n hC 2 d_Mbuild_108 rfl rfl ?_
      refine r_aload_n hC 0 d_Mbuild_109 rfl rfl ?_
      refine r_getI hC 5 19 179 fl_M88 (by exact hV1.k) d_Mbuild_110 rfl rfl (by exact (hV1.fi 179 (by decide))) ?_
      rw [hO1]
      refine r_icmp_ge hC 175 d_Mbuild_113 (by decide) (fun _ => ?_) (fun z => absurd (Int32.le_refl _) z)
      refine r_vret hC d_Mbuild_175 (Nat.le_refl _) (Nat.le_refl _) ⟨rfl, V1, I1, hV1, hM.cg hof ⟨hoi.1, hoi.2.1⟩, hoi.2.2, ⟨?_, fun i h1 h2 => ?_⟩, hF⟩
      · rw [← hL, hLeq] at hT; exact hT
      · rw [hh i h1 h2]
        by_cases e : i ∈ L1
        · rw [if_pos e]
        · rw [if_neg e]
          have hnk : ¬ vK (qD G kk) i = true := fun w => e (by rw [← hL, hLmem]; exact ⟨h1, h2, w⟩)
          unfold hwF; rw [if_neg hnk]
    | cons x L2 ih =>
      intro L1 M1 V1 I1 a3 hL hO hT hh hV1 hof hoi hF
      obtain ⟨hO1, hO2⟩ := hO
      have hxv := hO2 L1.length x (by simp)
      have hxm : x ∈ lkL (qR G) (vK (qD G kk)) (qN G) := by rw [hL]; simp
      obtain ⟨hx1, hxn, hxk⟩ := (hLmem x).mp hxm
      have hlen := lkL_len (qR G) (vK (qD G kk)) (qN G)
      rw [hL] at hlen
      have hll : L1.length < (L1 ++ x :: L2).length := by simp
      have hM1 := hM.cg hof ⟨hoi.1, hoi.2.1⟩
      obtain ⟨e1, e2, e3, e4, e5, e6⟩ := hM1.1.2.2.1 x hx1 hxn
      have hb5 := (hG.1.2.1 x).2.2
      have hxnot : x ∉ L1 := fun w => by
        rw [hL, List.nodup_append] at hLnd
        exact hLnd.2.2 x w x List.mem_cons_self rfl
      have eapp : L1 ++ [x] ++ L2 = L1 ++ x :: L2 := by simp
      have ih2 := ih (L1 ++ [x])
      rw [eapp, nU4_app] at ih2
      have fin : ∀ (M2 : Mem) (V2 : Nat → Nat → Int32) (v : Nat), v = hwF (qR G) (qD G kk) x → OV V2 I1 (L1 ++ x :: L2) → TV V2 (rn (qR G) (vU (qD G kk)) tS0 (nU4 (qR G) L1 ++ nU4 (qR G) [x])) → (∀ i, 1 ≤ i → i ≤ qN G → V2 178 i = nI (if i ∈ L1 then hwF (qR G) (qD G kk) i else 0)) → MV M2 Y ar V2 I1 → (∀ f, f < 173 → ∀ j, V2 f j = V f j) → Fr (MZ M) M M2 → Gj p l e (rmo 6 0 0) s m args below meth c Θ M2 [some (.ref Y), some (.int (nI kk)), some (.int (nI L1.length)), some (.int (nI x))] 0 0 (Fn below args s Θ 0 0 (pV fun N => ∃ V2 I2, MV N Y ar V2 I2 ∧ MG V2 I2 G ∧ I2 172 = nI kk ∧ BV V2 G kk ∧ Fr (MZ M) M N)) 168 [.int (nI v), .int (nI x), .ref (ar 178)] := by
        intro M2 V2 v hv hO2 hT2 hh2 hV2 hof2 hF2
        refine r_iast hC (x) (hV2.ak 178 (by decide)) rfl (by rw [hV2.al 178 (by decide)]; exact (show x < mLn 178 from (by show x < 301; omega))) (by rw [hV2.al 178 (by decide)]; decide) d_Mbuild_168 ?_
        obtain ⟨hV3, f3⟩ := hV2.st 178 (by decide) x (nI v)
        generalize sEI M2 (ar 178) x (nI v) = M3 at hV3 f3 ⊢
        rw [List.length_append] at ih2
        refine r_ii2 hC (nI (L1.length + [x].length)) d_Mbuild_169 (nI_1 _) ?_
        refine r_goto hC 108 d_Mbuild_172 (by decide) ?_
        refine ih2 M3 _ I1 _ hL ⟨hO2.1, fun j y hj => ?_⟩ ?_ (fun i h1 h2 => ?_) hV3 (fun f hf j => ?_) hoi (hF2.trans f3 (MZ.old hF2))
        · rw [up2_ne _ _ (by omega)]; exact hO2.2 j y hj
        · refine ⟨fun y hy => ?_, fun y z hy => ?_, fun y hy => ?_, fun y hy => ?_, fun y j z hy hj => ?_⟩
          · rw [up2_ne _ _ (by omega)]; exact hT2.1 y hy
          · rw [up2_ne _ _ (by omega)]; exact hT2.2.1 y z hy
          · rw [up2_ne _ _ (by omega)]; exact hT2.2.2.1 y hy
          · rw [up2_ne _ _ (by omega)]; exact hT2.2.2.2.1 y hy
          · rw [up2_ne _ _ (by omega)]; exact hT2.2.2.2.2 y j z hy hj
        · by_cases e : i = x
          · rw [e, up2_self, if_pos (by simp), hv]
          · rw [up2_ne _ _ (fun w => e w.2), hh2 i h1 h2]
            have : i ∈ L1 ++ [x] ↔ i ∈ L1 := by simp [e]
            by_cases e2 : i ∈ L1
            · rw [if_pos e2, if_pos (this.mpr e2)]
            · rw [if_neg e2, if_neg (fun w => e2 (this.mp w))]
        · rw [up2_ne _ _ (by omega)]; exact hof2 f hf j
      refine r_iload_n hC 2 d_Mbuild_108 rfl rfl ?_
      refine r_aload_n hC 0 d_Mbuild_109 rfl rfl ?_
      refine r_getI hC 5 19 179 fl_M88 (by exact hV1.k) d_Mbuild_110 rfl rfl (by exact (hV1.fi 179 (by decide))) ?_
      rw [hO1]
      refine r_icmp_ge hC 175 d_Mbuild_113 (by decide) (fun z => absurd z (nI_ge hll (by omega))) (fun _ => ?_)
      refine r_aload_n hC 0 d_Mbuild_116 rfl rfl ?_
      refine r_getS hC 5 20 180 fl_M63 (by exact hV1.k) d_Mbuild_117 rfl rfl (by exact (hV1.rf 180 (by decide))) ?_
      refine r_iload_n hC 2 d_Mbuild_120 rfl rfl ?_
      refine r_iald hC (L1.length) (hV1.ak 180 (by decide)) rfl (by rw [hV1.al 180 (by decide)]; exact (show L1.length < mLn 180 from (by show L1.length < 301; omega))) (by rw [hV1.al 180 (by decide)]; decide) d_Mbuild_121 (hV1.el 180 (by decide) (L1.length)) ?_
      rw [hxv]
      refine r_is3 hC d_Mbuild_122 ?_
      refine r_aload_n hC 0 d_Mbuild_123 rfl rfl ?_
      refine r_getS hC 5 18 178 fl_M60 (by exact hV1.k) d_Mbuild_124 rfl rfl (by exact (hV1.rf 178 (by decide))) ?_
      refine r_iload_n hC 3 d_Mbuild_127 rfl rfl ?_
      refine r_aload_n hC 0 d_Mbuild_128 rfl rfl ?_
      refine r_getS hC 5 2 162 fl_M7 (by exact hV1.k) d_Mbuild_129 rfl rfl (by exact (hV1.rf 162 (by decide))) ?_
      refine r_iload_n hC 3 d_Mbuild_132 rfl rfl ?_
      refine r_iald hC (x) (hV1.ak 162 (by decide)) rfl (by rw [hV1.al 162 (by decide)]; exact (show x < mLn 162 from (by show x < 301; omega))) (by rw [hV1.al 162 (by decide)]; decide) d_Mbuild_133 (hV1.el 162 (by decide) (x)) ?_
      refine r_iconst hC 4 d_Mbuild_134 (by decide) ?_
      rw [e1]
      by_cases hs4 : rS (qR G x) = 4
      · have hfx : nU4 (qR G) [x] = [] := by simp [nU4, hs4]
        rw [hfx, List.append_nil] at fin
        refine r_icmp_ne hC 142 d_Mbuild_135 (by decide) (fun z => absurd (by rw [hs4]; rfl) z) (fun _ => ?_)
        refine r_iconst hC 1 d_Mbuild_138 (by decide) ?_
        refine r_goto hC 168 d_Mbuild_139 (by decide) ?_
        exact fin M1 V1 1 (by unfold hwF; rw [if_pos hxk, if_pos hs4]) ⟨hO1, hO2⟩ hT hh hV1 hof hF
      · have hfx : nU4 (qR G) [x] = [x] := by simp [nU4, hs4]
        rw [hfx] at fin
        have hns : vN (qD G kk) = nU4 (qR G) L1 ++ x :: nU4 (qR G) L2 := by
          rw [← hLeq, hL, nU4_app]
          show _ ++ List.filter _ (x :: L2) = _
          rw [List.filter_cons_of_pos (by simp [hs4])]
          rfl
        have hxin : x ∈ vN (qD G kk) := by rw [hns]; simp
        have hix : (vN (qD G kk)).idxOf x = (nU4 (qR G) L1).length := ((idx_iff hnok.1 hxin).mp (by rw [hns]; simp)).symm
        have htk : (vN (qD G kk)).take ((vN (qD G kk)).idxOf x) = nU4 (qR G) L1 := by
          rw [hix, hns, List.take_left']
          rfl
        have hac : acF (qR G) (qD G kk) x = (gR (vU (qD G kk) x) (rn (qR G) (vU (qD G kk)) tS0 (nU4 (qR G) L1)) (qR G x)).2 := by unfold acF; rw [htk]
        have hWp : WF (rn (qR G) (vU (qD G kk)) tS0 (nU4 (qR G) L1)) := WF.rn (hnok.sub (by rw [hns]; exact List.sublist_append_left _ _))
        have hrok := hnok.2.1 x (by rw [hns]; simp)
        refine r_icmp_ne hC 142 d_Mbuild_135 (by decide) (fun _ => ?_) (fun z => absurd ((nI_eq (b := 4) (by omega) (by omega)).mp z) hs4)
        refine r_aload_n hC 0 d_Mbuild_142 rfl rfl ?_
        refine r_iload_n hC 1 d_Mbuild_143 rfl rfl ?_
        refine r_iload_n hC 3 d_Mbuild_144 rfl rfl ?_
        refine r_cVi hC [.int (nI kk), .int (nI x)] rfl (c_MisUndone l Θ M1 Y ar V1 I1 hV1 (qN G) (qR G) _ hM1.1 kk x hk (by omega)) mi_MisUndone lk_M135 in_MisUndone (ci := 5) rfl rfl (by exact hV1.k) rfl (Nat.le_of_ble_eq_true rfl) ⟨Nat.le_of_ble_eq_true rfl, Nat.le_of_ble_eq_true rfl⟩ ⟨Nat.le_of_ble_eq_true rfl, Nat.le_of_ble_eq_true rfl⟩ d_Mbuild_145 (fun v M2 h2 => ?_)
        obtain ⟨rfl, rfl⟩ := h2
        rw [unK_eq hNI]
        refine r_if_eq hC 155 d_Mbuild_148 (by decide) (fun z => ?_) (fun z => ?_)
        · have hu := b2i_eq z
          have hgr : gR (vU (qD G kk) x) (rn (qR G) (vU (qD G kk)) tS0 (nU4 (qR G) L1)) (qR G x) = doRow (rn (qR G) (vU (qD G kk)) tS0 (nU4 (qR G) L1)) (qR G x) := by rw [hu]; rfl
          rw [hgr] at hac
          refine r_aload_n hC 0 d_Mbuild_155 rfl rfl ?_
          refine r_iload_n hC 3 d_Mbuild_156 rfl rfl ?_
          refine r_cVi hC [.int (nI x)] rfl (c_MdoRow l Θ M2 Y ar V1 I1 hV1 _ hT hWp (qO G) hM1.2.1 hob.2 (fun y hy => hG.thb hk (fun i hi => by rw [hns]; exact List.mem_append_left _ hi) y hy) x (by omega) (qR G x) hrok e1 e4 e5 e6) mi_MdoRow lk_M138 in_MdoRow (ci := 5) rfl rfl (by exact hV1.k) rfl (Nat.le_of_ble_eq_true rfl) ⟨Nat.le_of_ble_eq_true rfl, Nat.le_of_ble_eq_true rfl⟩ ⟨Nat.le_of_ble_eq_true rfl, Nat.le_of_ble_eq_true rfl⟩ d_Mbuild_157 (fun v M3 h3 => ?_)
          obtain ⟨rfl, V2, hV2, hT2, hkp, f3⟩ := h3
          have hT3 : TV V2 (rn (qR G) (vU (qD G kk)) tS0 (nU4 (qR G) L1 ++ [x])) := by rw [rn_snoc, hgr]; exact hT2
          have hF3 := hF.trans f3 (MZ.old hF)
          have hO3 : OV V2 I1 (L1 ++ x :: L2) := ⟨hO1, fun j y hj => (hkp 180 (by omega) j).trans (hO2 j y hj)⟩
          have hh3 : ∀ i, 1 ≤ i → i ≤ qN G → V2 178 i = nI (if i ∈ L1 then hwF (qR G) (qD G kk) i else 0) := fun i h1 h2 => (hkp 178 (by omega) i).trans (hh i h1 h2)
          have hof3 : ∀ f, f < 173 → ∀ j, V2 f j = V f j := fun f hf j => (hkp f (by omega) j).trans (hof f hf j)
          refine r_if_eq hC 167 d_Mbuild_160 (by decide) (fun z2 => ?_) (fun z2 => ?_)
          · skip
            refine r_iconst hC 2 d_Mbuild_167 (by decide) ?_
            exact fin M3 V2 2 (by unfold hwF; rw [if_pos hxk, if_neg hs4, hu, hac, b2i_eq z2]; rfl) hO3 hT3 hh3 hV2 hof3 hF3
          · skip
            refine r_iconst hC 1 d_Mbuild_163 (by decide) ?_
            refine r_goto hC 168 d_Mbuild_164 (by decide) ?_
            exact fin M3 V2 1 (by unfold hwF; rw [if_pos hxk, if_neg hs4, hu, hac, b2i_ne z2]; rfl) hO3 hT3 hh3 hV2 hof3 hF3
        · have hu := b2i_ne z
          have hT3 : TV V1 (rn (qR G) (vU (qD G kk)) tS0 (nU4 (qR G) L1 ++ [x])) := by rw [rn_snoc, hu]; exact hT
          refine r_iconst hC 3 d_Mbuild_151 (by decide) ?_
          refine r_goto hC 168 d_Mbuild_152 (by decide) ?_
          exact fin M2 V1 3 (by unfold hwF; rw [if_pos hxk, if_neg hs4, if_pos hu]) ⟨hO1, hO2⟩ hT3 hh hV1 hof hF
  have l3 : ∀ (r i : Nat) (M1 : Mem) (V1 : Nat → Nat → Int32) (I1 : Nat → Int32), i + r = qN G → TV V1 tS0 → (∀ j, 1 ≤ j → j ≤ i → V1 178 j = 0) → MV M1 Y ar V1 I1 → (∀ f, f < 173 → ∀ j, V1 f j = V f j) → (I1 161 = I 161 ∧ I1 168 = I 168 ∧ I1 172 = nI kk) → Fr (MZ M) M M1 → Gj p l e (rmo 6 0 0) s m args below meth c Θ M1 [some (.ref Y), some (.int (nI kk)), some (.int (nI (i + 1))), none] 0 0 (Fn below args s Θ 0 0 (pV fun N => ∃ V2 I2, MV N Y ar V2 I2 ∧ MG V2 I2 G ∧ I2 172 = nI kk ∧ BV V2 G kk ∧ Fr (MZ M) M N)) 80 [] := by
    intro r
    induction r with
    | zero =>
      intro i M1 V1 I1 hi hT hh hV1 hof hoi hF
      have hi : i = qN G := hi
      subst hi
      have hM1 := hM.cg hof ⟨hoi.1, hoi.2.1⟩
      refine r_iload_n hC 2 d_Mbuild_80 rfl rfl ?_
      refine r_aload_n hC 0 d_Mbuild_81 rfl rfl ?_
      refine r_getI hC 5 1 161 fl_M81 (by exact hV1.k) d_Mbuild_82 rfl rfl (by exact (hV1.fi 161 (by decide))) ?_
      rw [hoi.1, hi1]
      refine r_icmp_gt hC 101 d_Mbuild_85 (by decide) (fun _ => ?_) (fun z => absurd (nI_lt (by omega) (by omega)) z)
      refine r_aload_n hC 0 d_Mbuild_101 rfl rfl ?_
      refine r_iload_n hC 1 d_Mbuild_102 rfl rfl ?_
      refine r_cVv hC [.int (nI kk)] rfl (c_MfindOrder l Θ M1 Y ar V1 I1 hV1 (qN G) (qR G) _ hM1.1 hG.1 kk hk) mi_MfindOrder lk_M132 in_MfindOrder (ci := 5) rfl rfl (by exact hV1.k) rfl (Nat.le_of_ble_eq_true rfl) ⟨Nat.le_of_ble_eq_true rfl, Nat.le_of_ble_eq_true rfl⟩ ⟨Nat.le_of_ble_eq_true rfl, Nat.le_of_ble_eq_true rfl⟩ d_Mbuild_103 (fun M2 h2 => ?_)
      obtain ⟨V2, I2, hV2, hO2, hk2, hki2, f2⟩ := h2
      refine r_iconst hC 0 d_Mbuild_106 (by decide) ?_
      refine r_is2 hC d_Mbuild_107 ?_
      refine main _ [] M2 V2 I2 none rfl hO2 ?_ (fun i h1 h2 => ?_) hV2 (fun f hf j => (hk2 f (by omega) j).trans (hof f hf j)) ⟨(hki2 161 (by omega)).trans hoi.1, (hki2 168 (by omega)).trans hoi.2.1, (hki2 172 (by omega)).trans hoi.2.2⟩ (hF.trans f2 (MZ.old hF))
      · refine ⟨fun y hy => ?_, fun y z hy => ?_, fun y hy => ?_, fun y hy => ?_, fun y j z hy hj => ?_⟩
        · rw [hk2 173 (by omega)]; exact hT.1 y hy
        · cases hy
        · rw [hk2 175 (by omega)]; exact hT.2.2.1 y hy
        · rw [hk2 176 (by omega)]; exact hT.2.2.2.1 y hy
        · have hj : ([] : List Nat)[j]? = some z := hj
          simp at hj
      · rw [hk2 178 (by omega), hh i h1 h2, if_neg (by simp)]; rfl
    | succ r ih =>
      intro i M1 V1 I1 hi hT hh hV1 hof hoi hF
      refine r_iload_n hC 2 d_Mbuild_80 rfl rfl ?_
      refine r_aload_n hC 0 d_Mbuild_81 rfl rfl ?_
      refine r_getI hC 5 1 161 fl_M81 (by exact hV1.k) d_Mbuild_82 rfl rfl (by exact (hV1.fi 161 (by decide))) ?_
      rw [hoi.1, hi1]
      refine r_icmp_gt hC 101 d_Mbuild_85 (by decide) (fun z => absurd z (nI_nlt (by omega) (by omega))) (fun _ => ?_)
      refine r_aload_n hC 0 d_Mbuild_88 rfl rfl ?_
      refine r_getS hC 5 18 178 fl_M60 (by exact hV1.k) d_Mbuild_89 rfl rfl (by exact (hV1.rf 178 (by decide))) ?_
      refine r_iload_n hC 2 d_Mbuild_92 rfl rfl ?_
      refine r_iconst hC 0 d_Mbuild_93 (by decide) ?_
      refine r_iast hC (i + 1) (hV1.ak 178 (by decide)) rfl (by rw [hV1.al 178 (by decide)]; exact (show i + 1 < mLn 178 from (by show i + 1 < 301; omega))) (by rw [hV1.al 178 (by decide)]; decide) d_Mbuild_94 ?_
      obtain ⟨hV2, f2⟩ := hV1.st 178 (by decide) (i + 1) 0
      generalize sEI M1 (ar 178) (i + 1) 0 = M2 at hV2 f2 ⊢
      refine r_ii2 hC (nI (i + 1 + 1)) d_Mbuild_95 (nI_1 _) ?_
      refine r_goto hC 80 d_Mbuild_98 (by decide) ?_
      refine ih (i + 1) M2 _ I1 (by omega) ?_ (fun j h1 h2 => ?_) hV2 (fun f hf j => ?_) hoi (hF.trans f2 (MZ.old hF))
      · refine ⟨fun y hy => ?_, fun y z hy => ?_, fun y hy => ?_, fun y hy => ?_, fun y j z hy hj => ?_⟩
        · rw [up2_ne _ _ (by omega)]; exact hT.1 y hy
        · cases hy
        · rw [up2_ne _ _ (by omega)]; exact hT.2.2.1 y hy
        · rw [up2_ne _ _ (by omega)]; exact hT.2.2.2.1 y hy
        · have hj : ([] : List Nat)[j]? = some z := hj
          simp at hj
      · by_cases e : j = i + 1
        · rw [e, up2_self]
        · rw [up2_ne _ _ (fun w => e w.2)]; exact hh j h1 (by omega)
      · rw [up2_ne _ _ (by omega)]; exact hof f hf j
  have l2 : ∀ (r i : Nat) (M1 : Mem) (V1 : Nat → Nat → Int32) (I1 : Nat → Int32), i + r = 41 → (∀ o, o < 40 → V1 173 o = b2i (decide (o = 0)) ∧ V1 175 o = -1) → (∀ j, j < i → V1 176 j = 0) → MV M1 Y ar V1 I1 → (∀ f, f < 173 → ∀ j, V1 f j = V f j) → (I1 161 = I 161 ∧ I1 168 = I 168 ∧ I1 172 = nI kk) → Fr (MZ M) M M1 → Gj p l e (rmo 6 0 0) s m args below meth c Θ M1 [some (.ref Y), some (.int (nI kk)), some (.int (nI i)), none] 0 0 (Fn below args s Θ 0 0 (pV fun N => ∃ V2 I2, MV N Y ar V2 I2 ∧ MG V2 I2 G ∧ I2 172 = nI kk ∧ BV V2 G kk ∧ Fr (MZ M) M N)) 59 [] := by
    intro r
    induction r with
    | zero =>
      intro i M1 V1 I1 hi hT hh hV1 hof hoi hF
      have hi : i = 41 := hi
      subst hi
      refine r_iload_n hC 2 d_Mbuild_59 rfl rfl ?_
      refine r_bipush hC 40 d_Mbuild_60 (by decide) ?_
      refine r_icmp_gt hC 78 d_Mbuild_62 (by decide) (fun _ => ?_) (fun z => absurd (by decide) z)
      refine r_iconst hC 1 d_Mbuild_78 (by decide) ?_
      refine r_is2 hC d_Mbuild_79 ?_
      refine l3 (qN G) 0 M1 V1 I1 (by omega) ⟨fun o ho => (hT o ho).1, (fun y z hy => by cases hy), fun o ho => (hT o ho).2, fun y hy => hh y (by omega), fun y j z hy hj => ?_⟩ (fun j h1 h2 => by omega) hV1 hof hoi hF
      have hj : ([] : List Nat)[j]? = some z := hj
      simp at hj
    | succ r ih =>
      intro i M1 V1 I1 hi hT hh hV1 hof hoi hF
      refine r_iload_n hC 2 d_Mbuild_59 rfl rfl ?_
      refine r_bipush hC 40 d_Mbuild_60 (by decide) ?_
      refine r_icmp_gt hC 78 d_Mbuild_62 (by decide) (fun z => absurd z (nI_nlt (a := 40) (by omega) (by omega))) (fun _ => ?_)
      refine r_aload_n hC 0 d_Mbuild_65 rfl rfl ?_
      refine r_getS hC 5 16 176 fl_M54 (by exact hV1.k) d_Mbuild_66 rfl rfl (by exact (hV1.rf 176 (by decide))) ?_
      refine r_iload_n hC 2 d_Mbuild_69 rfl rfl ?_
      refine r_iconst hC 0 d_Mbuild_70 (by decide) ?_
      refine r_iast hC (i) (hV1.ak 176 (by decide)) rfl (by rw [hV1.al 176 (by decide)]; exact (show i < mLn 176 from (by show i < 41; omega))) (by rw [hV1.al 176 (by decide)]; decide) d_Mbuild_71 ?_
      obtain ⟨hV2, f2⟩ := hV1.st 176 (by decide) i 0
      generalize sEI M1 (ar 176) i 0 = M2 at hV2 f2 ⊢
      refine r_ii2 hC (nI (i + 1)) d_Mbuild_72 (nI_1 _) ?_
      refine r_goto hC 59 d_Mbuild_75 (by decide) ?_
      refine ih (i + 1) M2 _ I1 (by omega) (fun o ho => ?_) (fun j hj => ?_) hV2 (fun f hf j => ?_) hoi (hF.trans f2 (MZ.old hF))
      · rw [up2_ne _ _ (by omega), up2_ne _ _ (by omega)]; exact hT o ho
      · by_cases e : j = i
        · rw [e, up2_self]
        · rw [up2_ne _ _ (fun w => e w.2)]; exact hh j (by omega)
      · rw [up2_ne _ _ (by omega)]; exact hof f hf j
  have l1 : ∀ (r i : Nat) (M1 : Mem) (V1 : Nat → Nat → Int32) (I1 : Nat → Int32), i + r = 40 → (∀ o, o < i → V1 173 o = b2i (decide (o = 0)) ∧ V1 175 o = -1) → MV M1 Y ar V1 I1 → (∀ f, f < 173 → ∀ j, V1 f j = V f j) → (I1 161 = I 161 ∧ I1 168 = I 168 ∧ I1 172 = nI kk) → Fr (MZ M) M M1 → Gj p l e (rmo 6 0 0) s m args below meth c Θ M1 [some (.ref Y), some (.int (nI kk)), some (.int (nI i)), none] 0 0 (Fn below args s Θ 0 0 (pV fun N => ∃ V2 I2, MV N Y ar V2 I2 ∧ MG V2 I2 G ∧ I2 172 = nI kk ∧ BV V2 G kk ∧ Fr (MZ M) M N)) 16 [] := by
    intro r
    induction r with
    | zero =>
      intro i M1 V1 I1 hi hT hV1 hof hoi hF
      have hi : i = 40 := hi
      subst hi
      refine r_iload_n hC 2 d_Mbuild_16 rfl rfl ?_
      refine r_bipush hC 40 d_Mbuild_17 (by decide) ?_
      refine r_icmp_ge hC 57 d_Mbuild_19 (by decide) (fun _ => ?_) (fun z => absurd (Int32.le_refl _) z)
      refine r_iconst hC 0 d_Mbuild_57 (by decide) ?_
      refine r_is2 hC d_Mbuild_58 ?_
      exact l2 41 0 M1 V1 I1 rfl hT (fun j hj => by omega) hV1 hof hoi hF
    | succ r ih =>
      intro i M1 V1 I1 hi hT hV1 hof hoi hF
      have go : ∀ v : Int32, v = b2i (decide (i = 0)) → Gj p l e (rmo 6 0 0) s m args below meth c Θ M1 [some (.ref Y), some (.int (nI kk)), some (.int (nI i)), none] 0 0 (Fn below args s Θ 0 0 (pV fun N => ∃ V2 I2, MV N Y ar V2 I2 ∧ MG V2 I2 G ∧ I2 172 = nI kk ∧ BV V2 G kk ∧ Fr (MZ M) M N)) 36 [.int v, .int (nI i), .ref (ar 173)] := by
        intro v hv
        subst hv
        refine r_zast hC (i) (hV1.ak 173 (by decide)) rfl (by rw [hV1.al 173 (by decide)]; exact (show i < mLn 173 from (by show i < 40; omega))) (by rw [hV1.al 173 (by decide)]; decide) (by cases decide (i = 0) <;> simp [b2i]) d_Mbuild_36 ?_
        obtain ⟨hV2, f2⟩ := hV1.st 173 (by decide) i (b2i (decide (i = 0)))
        generalize sEI M1 (ar 173) i (b2i (decide (i = 0))) = M2 at hV2 f2 ⊢
        refine r_aload_n hC 0 d_Mbuild_37 rfl rfl ?_
        refine r_getS hC 5 14 174 fl_M48 (by exact hV2.k) d_Mbuild_38 rfl rfl (by exact (hV2.rf 174 (by decide))) ?_
        refine r_iload_n hC 2 d_Mbuild_41 rfl rfl ?_
        refine r_iconst hC (-1) d_Mbuild_42 (by decide) ?_
        refine r_iast hC (i) (hV2.ak 174 (by decide)) rfl (by rw [hV2.al 174 (by decide)]; exact (show i < mLn 174 from (by show i < 40; omega))) (by rw [hV2.al 174 (by decide)]; decide) d_Mbuild_43 ?_
        obtain ⟨hV3, f3⟩ := hV2.st 174 (by decide) i (-1)
        generalize sEI M2 (ar 174) i (-1) = M3 at hV3 f3 ⊢
        refine r_aload_n hC 0 d_Mbuild_44 rfl rfl ?_
        refine r_getS hC 5 15 175 fl_M51 (by exact hV3.k) d_Mbuild_45 rfl rfl (by exact (hV3.rf 175 (by decide))) ?_
        refine r_iload_n hC 2 d_Mbuild_48 rfl rfl ?_
        refine r_iconst hC (-1) d_Mbuild_49 (by decide) ?_
        refine r_iast hC (i) (hV3.ak 175 (by decide)) rfl (by rw [hV3.al 175 (by decide)]; exact (show i < mLn 175 from (by show i < 40; omega))) (by rw [hV3.al 175 (by decide)]; decide) d_Mbuild_50 ?_
        obtain ⟨hV4, f4⟩ := hV3.st 175 (by decide) i (-1)
        generalize sEI M3 (ar 175) i (-1) = M4 at hV4 f4 ⊢
        have F2 := hF.trans f2 (MZ.old hF)
        have F3 := F2.trans f3 (MZ.old F2)
        refine r_ii2 hC (nI (i + 1)) d_Mbuild_51 (nI_1 _) ?_
        refine r_goto hC 16 d_Mbuild_54 (by decide) ?_
        refine ih (i + 1) M4 _ I1 (by omega) (fun o ho => ?_) hV4 (fun f hf j => ?_) hoi (F3.trans f4 (MZ.old F3))
        · by_cases e : o = i
          · rw [e]
            refine ⟨?_, up2_self _ _ _ _⟩
            rw [up2_ne _ _ (by omega), up2_ne _ _ (by omega), up2_self]
          · rw [up2_ne _ _ (by omega), up2_ne _ _ (by omega), up2_ne _ _ (fun w => e w.2), up2_ne _ _ (fun w => e w.2), up2_ne _ _ (by omega), up2_ne _ _ (by omega)]
            exact hT o (by omega)
        · rw [up2_ne _ _ (by omega), up2_ne _ _ (by omega), up2_ne _ _ (by omega)]; exact hof f hf j
      refine r_iload_n hC 2 d_Mbuild_16 rfl rfl ?_
      refine r_bipush hC 40 d_Mbuild_17 (by decide) ?_
      refine r_icmp_ge hC 57 d_Mbuild_19 (by decide) (fun z => absurd z (nI_ge (b := 40) (by omega) (by omega))) (fun _ => ?_)
      refine r_aload_n hC 0 d_Mbuild_22 rfl rfl ?_
      refine r_getS hC 5 13 173 fl_M45 (by exact hV1.k) d_Mbuild_23 rfl rfl (by exact (hV1.rf 173 (by decide))) ?_
      refine r_iload_n hC 2 d_Mbuild_26 rfl rfl ?_
      refine r_iload_n hC 2 d_Mbuild_27 rfl rfl ?_
      refine r_if_ne hC 35 d_Mbuild_28 (by decide) (fun z => ?_) (fun z => ?_)
      · have hne : i ≠ 0 := fun e => z (by rw [e]; rfl)
        refine r_iconst hC 0 d_Mbuild_35 (by decide) ?_
        exact go 0 (by rw [decide_eq_false hne]; rfl)
      · have he : i = 0 := (nI_eq (b := 0) (by omega) (by omega)).mp z
        refine r_iconst hC 1 d_Mbuild_31 (by decide) ?_
        refine r_goto hC 36 d_Mbuild_32 (by decide) ?_
        exact go 1 (by rw [decide_eq_true he]; rfl)
  refine r_aload_n hC 0 d_Mbuild_0 rfl rfl ?_
  refine r_getI hC 5 12 172 fl_M42 (by exact hV.k) d_Mbuild_1 rfl rfl (by exact (hV.fi 172 (by decide))) ?_
  refine r_iload_n hC 1 d_Mbuild_4 rfl rfl ?_
  refine r_icmp_ne hC 9 d_Mbuild_5 (by decide) (fun z => ?_) (fun z => ?_)
  · skip
    refine r_aload_n hC 0 d_Mbuild_9 rfl rfl ?_
    refine r_iload_n hC 1 d_Mbuild_10 rfl rfl ?_
    refine r_putI hC 5 12 172 fl_M42 rfl (by exact hV.k) d_Mbuild_11 rfl rfl rfl rfl ?_
    obtain ⟨hV1, f1⟩ := hV.si 172 (by decide) (nI kk)
    generalize sI M 172 Y (nI kk) = M1 at hV1 f1 ⊢
    refine r_iconst hC 0 d_Mbuild_14 (by decide) ?_
    refine r_is2 hC d_Mbuild_15 ?_
    exact l1 40 0 M1 V _ rfl (fun o ho => by omega) hV1 (fun _ _ _ => rfl) ⟨va_up_ne _ _ (by omega), va_up_ne _ _ (by omega), va_up_self _ _ _⟩ f1
  · refine r_vret hC d_Mbuild_8 (Nat.le_refl _) (Nat.le_refl _) ⟨rfl, V, I, hV, hM, z, ?_, Fr.rf⟩
    rcases hB with q | ⟨k2, hk2, q, hb⟩
    · rw [q] at z
      have h5 : (-1 : Int32).toInt = (nI kk).toInt := by rw [show (-1 : Int32) = nI kk from z]
      rw [nI_toInt (by omega)] at h5
      have h6 : (-1 : Int32).toInt = -1 := by decide
      omega
    · rw [q] at z
      have := (nI_eq (by omega) (by omega)).mp z
      rw [← this]; exact hb
