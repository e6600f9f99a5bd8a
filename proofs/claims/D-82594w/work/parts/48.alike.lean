/-- below o (in S) all have the same children in T -/
def ALK (S T : TS) (o : Nat) : Prop := ∀ j x, anc S j x = some o → ki S x = ki T x
theorem anc_dn {S : TS} (hW : WF S) {j x o : Nat} : anc S (j + 1) x = some o ↔ ∃ c, c ∈ ki S o ∧ anc S j x = some c := by
  rw [anc_add]
  constructor
  · intro h
    cases hc : anc S j x with
    | none => rw [hc] at h; cases h
    | some c =>
      rw [hc] at h
      have h : anc S 1 c = some o := h
      rw [anc_one] at h
      exact ⟨c, hW.kp.mp h, rfl⟩
  · rintro ⟨c, hc, h⟩
    rw [h]
    show anc S 1 c = some o
    rw [anc_one]
    exact hW.kp.mpr hc
theorem ALK_rec {S T : TS} (hW : WF S) (o : Nat) : ALK S T o ↔ ki S o = ki T o ∧ ∀ c ∈ ki S o, ALK S T c := by
  constructor
  · intro h
    exact ⟨h 0 o rfl, fun c hc j x hx => h (j + 1) x ((anc_dn hW).mpr ⟨c, hc, hx⟩)⟩
  · rintro ⟨h1, h2⟩ j x hx
    cases j with
    | zero => cases hx; exact h1
    | succ j =>
      obtain ⟨c, hc, hx⟩ := (anc_dn hW).mp hx
      exact h2 c hc j x hx
theorem ht_dn {S : TS} (hW : WF S) {o c n : Nat} (hc : c ∈ ki S o) (h : ∀ j x, anc S j x = some o → j ≤ n + 1) : ∀ j x, anc S j x = some c → j ≤ n := fun j x hx => by
  have := h (j + 1) x ((anc_dn hW).mpr ⟨c, hc, hx⟩)
  omega
theorem ht_0 {S : TS} (hW : WF S) {o : Nat} (h : ∀ j x, anc S j x = some o → j ≤ 0) : ki S o = [] := by
  cases hk : ki S o with
  | nil => rfl
  | cons c l =>
    have := h 1 c ((anc_dn hW).mpr ⟨c, by rw [hk]; exact List.mem_cons_self, rfl⟩)
    omega
theorem ht_8 {S : TS} (hW : WF S) {t : Nat} (ht : t = 0 ∨ t = 40) : ∀ j x, anc S j x = some t → j ≤ 8 := fun j x hx => by
  cases j with
  | zero => omega
  | succ j =>
    cases hp : pr S x with
    | none => rw [anc_n hp] at hx; cases hx
    | some p =>
      obtain ⟨d, t2, h8, ht2, hd⟩ := hW.dp (hW.ch hp).1
      have := anc_uni hd (hW.tn ht2) hx (hW.tn ht)
      omega
theorem c_BareAlike (l : Launch) (Θ : Glob) (M : Mem) (pa li : Nat → Nat) (S : TS) (cp : Nat → Nat) (hP : PA M pa li S cp) (hW : WF S) (pb lj : Nat → Nat) (T : TS) (cq : Nat → Nat) (hQ : PA M pb lj T cq) (hV : WF T) : ∀ n o, o ≤ 40 → (∀ j x, anc S j x = some o → j ≤ n) → Ct l Θ y_BareAlike (n + 5) 0 0 [.ref (pa o), .ref (pb o)] M (pI fun r M1 => r = b2i (dm (ALK S T o)) ∧ M1 = M) := by
  have main : ∀ n o, o ≤ 40 → (∀ j x, anc S j x = some o → j ≤ n) → (∀ c, c ∈ ki S o → c ≤ 40 → Ct l Θ y_BareAlike (n + 4) 0 0 [.ref (pa c), .ref (pb c)] M (pI fun r M1 => r = b2i (dm (ALK S T c)) ∧ M1 = M)) → Ct l Θ y_BareAlike (n + 5) 0 0 [.ref (pa o), .ref (pb o)] M (pI fun r M1 => r = b2i (dm (ALK S T o)) ∧ M1 = M) := by
    intro n o ho hh ihc
    obtain ⟨p1, p2, p3, p4, p5, p6⟩ := hP.1 o ho
    obtain ⟨q1, q2, q3, q4, q5, q6⟩ := hQ.1 o ho
    have hL1 := hP.2.1 o ho
    have hL2 := hQ.2.1 o ho
    have hz1 := hL1.len
    have hz2 := hL2.len
    rw [List.length_map] at hz1 hz2
    have hl1 := hW.klen o
    have hl2 := hV.klen o
    refine Ct.start (cc := b_BareAlike) (nL := 5) (ret := (some .boolean)) [some (.ref (pa o)), some (.ref (pb o)), none, none, none] mi_BareAlike.1 (by decide +kernel) (by intro v hv; simp at hv; rcases hv with rfl | rfl <;> rfl) (by simp) rfl (fun p e s m args below meth c hC => ?_)
    refine r_aload_n hC 0 d_BareAlike_0 rfl rfl ?_
    refine r_getS hC 1 1 33 fl_B139 (by exact p1) d_BareAlike_1 rfl rfl (by exact p3) ?_
    refine r_cVi hC [] rfl (c_Asize l Θ M (li o) hL1.1) mi_Asize lk_B33 in_Asize (ci := 6) rfl rfl (by exact hL1.1) rfl (Nat.le_of_ble_eq_true rfl) ⟨by show 1 + 1 ≤ n + 5; omega, by show 8 + (1 + 11) + 32 * 1 ≤ 32 * (n + 5); omega⟩ ⟨Nat.le_of_ble_eq_true rfl, Nat.le_of_ble_eq_true rfl⟩ d_BareAlike_4 (fun r M1 h1 => ?_)
    obtain ⟨rfl, rfl⟩ := h1
    rw [hz1]
    refine r_aload_n hC 1 d_BareAlike_7 rfl rfl ?_
    refine r_getS hC 1 1 33 fl_B139 (by exact q1) d_BareAlike_8 rfl rfl (by exact q3) ?_
    refine r_cVi hC [] rfl (c_Asize l Θ M1 (lj o) hL2.1) mi_Asize lk_B33 in_Asize (ci := 6) rfl rfl (by exact hL2.1) rfl (Nat.le_of_ble_eq_true rfl) ⟨by show 1 + 1 ≤ n + 5; omega, by show 8 + (1 + 11) + 32 * 1 ≤ 32 * (n + 5); omega⟩ ⟨Nat.le_of_ble_eq_true rfl, Nat.le_of_ble_eq_true rfl⟩ d_BareAlike_11 (fun r M2 h2 => ?_)
    obtain ⟨rfl, rfl⟩ := h2
    rw [hz2]
    refine r_icmp_eq hC 19 d_BareAlike_14 (by decide) (fun z => ?_) (fun z => ?_)
    · have hll := (nI_eq (by omega) (by omega)).mp z
      have loop : ∀ (r i : Nat) (a3 a4 : Option Value), i + r = (ki S o).length → (∀ m, m < i → (ki S o)[m]? = (ki T o)[m]?) → (∀ m c, m < i → (ki S o)[m]? = some c → ALK S T c) → Gj p l e (rmo (n + 5) 0 0) s m args below meth c Θ M2 [some (.ref (pa o)), some (.ref (pb o)), some (.int (nI i)), a3, a4] 0 0 (Fn below args s Θ 0 0 (pI fun r M1 => r = b2i (dm (ALK S T o)) ∧ M1 = M2)) 21 [] := by
        intro r
        induction r with
        | zero =>
          intro i a3 a4 hi he hc
          have hi : i = (ki S o).length := hi
          subst hi
          have hk : ki S o = ki T o := by
            apply List.ext_getElem? 
            intro m
            rcases Nat.lt_or_ge m (ki S o).length with q | q
            · exact he m q
            · rw [List.getElem?_eq_none q, List.getElem?_eq_none (by omega)]
          have hA : ALK S T o := (ALK_rec hW o).mpr ⟨hk, fun c hcm => by
            obtain ⟨m, hm, rfl⟩ := List.getElem_of_mem hcm
            exact hc m _ hm (List.getElem?_eq_getElem hm)⟩
          rw [dm_t hA]
          refine r_iload_n hC 2 d_BareAlike_21 rfl rfl ?_
          refine r_aload_n hC 0 d_BareAlike_22 rfl rfl ?_
          refine r_getS hC 1 1 33 fl_B139 (by exact p1) d_BareAlike_23 rfl rfl (by exact p3) ?_
          refine r_cVi hC [] rfl (c_Asize l Θ M2 (li o) hL1.1) mi_Asize lk_B33 in_Asize (ci := 6) rfl rfl (by exact hL1.1) rfl (Nat.le_of_ble_eq_true rfl) ⟨by show 1 + 1 ≤ n + 5; omega, by show 8 + (1 + 11) + 32 * 1 ≤ 32 * (n + 5); omega⟩ ⟨Nat.le_of_ble_eq_true rfl, Nat.le_of_ble_eq_true rfl⟩ d_BareAlike_26 (fun r M3 h3 => ?_)
          obtain ⟨rfl, rfl⟩ := h3
          rw [hz1]
          refine r_icmp_ge hC 86 d_BareAlike_29 (by decide) (fun _ => ?_) (fun z => absurd (Int32.le_refl _) z)
          refine r_iconst hC 1 d_BareAlike_86 (by decide) ?_
          exact r_zret hC d_BareAlike_87 (Or.inr rfl) (Nat.le_refl _) (Nat.le_refl _) ⟨_, rfl, rfl, rfl⟩
        | succ r ih =>
          intro i a3 a4 hi he hc
          obtain ⟨ca, hca, hcam⟩ := get_some (l := ki S o) (i := i) (by omega)
          obtain ⟨cb, hcb, hcbm⟩ := get_some (l := ki T o) (i := i) (by omega)
          have la := (hW.klt hcam).1
          have lb := (hV.klt hcbm).1
          have oa := (hP.1 ca (by omega)).2.1
          have ob := (hQ.1 cb (by omega)).2.1
          rw [show oI ca = nI ca from if_neg (by omega)] at oa
          rw [show oI cb = nI cb from if_neg (by omega)] at ob
          have ff : ¬ ALK S T o → ∀ a3 a4 : Option Value, Gj p l e (rmo (n + 5) 0 0) s m args below meth c Θ M2 [some (.ref (pa o)), some (.ref (pb o)), some (.int (nI i)), a3, a4] 0 0 (Fn below args s Θ 0 0 (pI fun r M1 => r = b2i (dm (ALK S T o)) ∧ M1 = M2)) 78 [] := by
            intro hA a3 a4
            rw [dm_f hA]
            refine r_iconst hC 0 d_BareAlike_78 (by decide) ?_
            exact r_zret hC d_BareAlike_79 (Or.inl rfl) (Nat.le_refl _) (Nat.le_refl _) ⟨_, rfl, rfl, rfl⟩
          refine r_iload_n hC 2 d_BareAlike_21 rfl rfl ?_
          refine r_aload_n hC 0 d_BareAlike_22 rfl rfl ?_
          refine r_getS hC 1 1 33 fl_B139 (by exact p1) d_BareAlike_23 rfl rfl (by exact p3) ?_
          refine r_cVi hC [] rfl (c_Asize l Θ M2 (li o) hL1.1) mi_Asize lk_B33 in_Asize (ci := 6) rfl rfl (by exact hL1.1) rfl (Nat.le_of_ble_eq_true rfl) ⟨by show 1 + 1 ≤ n + 5; omega, by show 8 + (1 + 11) + 32 * 1 ≤ 32 * (n + 5); omega⟩ ⟨Nat.le_of_ble_eq_true rfl, Nat.le_of_ble_eq_true rfl⟩ d_BareAlike_26 (fun r M3 h3 => ?_)
          obtain ⟨rfl, rfl⟩ := h3
          rw [hz1]
          refine r_icmp_ge hC 86 d_BareAlike_29 (by decide) (fun z => absurd z (nI_ge (by omega) (by omega))) (fun _ => ?_)
          refine r_aload_n hC 0 d_BareAlike_32 rfl rfl ?_
          refine r_getS hC 1 1 33 fl_B139 (by exact p1) d_BareAlike_33 rfl rfl (by exact p3) ?_
          refine r_iload_n hC 2 d_BareAlike_36 rfl rfl ?_
          refine r_cVr hC [.int (nI i)] rfl (c_Aget l Θ M3 (li o) i _ _ hL1 (by simp; omega)) mi_Aget lk_B70 in_Aget (ci := 6) rfl rfl (by exact hL1.1) rfl (Nat.le_of_ble_eq_true rfl) ⟨by show 3 + 1 ≤ n + 5; omega, by show 8 + (2 + 11) + 32 * 3 ≤ 32 * (n + 5); omega⟩ ⟨Nat.le_of_ble_eq_true rfl, Nat.le_of_ble_eq_true rfl⟩ d_BareAlike_37 (fun r M4 h4 => ?_)
          obtain ⟨rfl, rfl⟩ := h4
          rw [map_get hca]
          refine r_cast hC 1 rfl (hP.kp (o := ca) (by omega)) cl_B113 ca_PP d_BareAlike_40 ?_
          refine r_as3 hC d_BareAlike_43 ?_
          refine r_aload_n hC 1 d_BareAlike_44 rfl rfl ?_
          refine r_getS hC 1 1 33 fl_B139 (by exact q1) d_BareAlike_45 rfl rfl (by exact q3) ?_
          refine r_iload_n hC 2 d_BareAlike_48 rfl rfl ?_
          refine r_cVr hC [.int (nI i)] rfl (c_Aget l Θ M4 (lj o) i _ _ hL2 (by simp; omega)) mi_Aget lk_B70 in_Aget (ci := 6) rfl rfl (by exact hL2.1) rfl (Nat.le_of_ble_eq_true rfl) ⟨by show 3 + 1 ≤ n + 5; omega, by show 8 + (2 + 11) + 32 * 3 ≤ 32 * (n + 5); omega⟩ ⟨Nat.le_of_ble_eq_true rfl, Nat.le_of_ble_eq_true rfl⟩ d_BareAlike_49 (fun r M5 h5 => ?_)
          obtain ⟨rfl, rfl⟩ := h5
          rw [map_get hcb]
          refine r_cast hC 1 rfl (hQ.kp (o := cb) (by omega)) cl_B113 ca_PP d_BareAlike_52 ?_
          refine r_as4 hC d_BareAlike_55 ?_
          refine r_aload_n hC 3 d_BareAlike_57 rfl rfl ?_
          refine r_getI hC 1 0 32 fl_B130 (by exact hP.kp (by omega)) d_BareAlike_58 rfl rfl (by exact oa) ?_
          refine r_aload hC 4 d_BareAlike_61 rfl ?_
          refine r_getI hC 1 0 32 fl_B130 (by exact hQ.kp (by omega)) d_BareAlike_63 rfl rfl (by exact ob) ?_
          refine r_icmp_ne hC 78 d_BareAlike_66 (by decide) (fun z => ff (fun hA => ?_) _ _) (fun z => ?_)
          · have e := ((ALK_rec hW o).mp hA).1
            rw [e, hcb] at hca
            exact z (by rw [Option.some.inj hca])
          · have eab := (nI_eq (by omega) (by omega)).mp z
            subst eab
            refine r_aload_n hC 3 d_BareAlike_69 rfl rfl ?_
            refine r_aload hC 4 d_BareAlike_70 rfl ?_
            refine r_cSi hC [.ref (pa ca), .ref (pb ca)] rfl (ihc ca hcam (by omega)) mi_BareAlike lk_B174 in_BareAlike rfl (Nat.le_of_ble_eq_true rfl) ⟨by show n + 4 + 1 ≤ n + 5; omega, by show 8 + (5 + 11) + 32 * (n + 4) ≤ 32 * (n + 5); omega⟩ ⟨Nat.le_of_ble_eq_true rfl, Nat.le_of_ble_eq_true rfl⟩ d_BareAlike_72 (fun r M6 h6 => ?_)
            obtain ⟨rfl, rfl⟩ := h6
            refine r_if_ne hC 80 d_BareAlike_75 (by decide) (fun z => ?_) (fun z => ff (fun hA => ?_) _ _)
            · have hAc := dm_iff.mp (b2i_ne z)
              refine r_ii2 hC (nI (i + 1)) d_BareAlike_80 (nI_1 _) ?_
              refine r_goto hC 21 d_BareAlike_83 (by decide) ?_
              refine ih (i + 1) _ _ (by omega) (fun m hm => ?_) (fun m c hm hmc => ?_)
              · rcases Nat.lt_or_ge m i with w | w
                · exact he m w
                · have : m = i := by omega
                  rw [this, hca, hcb]
              · rcases Nat.lt_or_ge m i with w | w
                · exact hc m c w hmc
                · have : m = i := by omega
                  rw [this, hca] at hmc
                  cases hmc
                  exact hAc
            · have := ((ALK_rec hW o).mp hA).2 ca hcam
              rw [dm_t this] at z
              exact i10 z
      refine r_iconst hC 0 d_BareAlike_19 (by decide) ?_
      refine r_is2 hC d_BareAlike_20 ?_
      exact loop (ki S o).length 0 _ _ (by omega) (fun m hm => by omega) (fun m c hm => by omega)
    · have hA : ¬ ALK S T o := fun hA => z (by rw [((ALK_rec hW o).mp hA).1])
      rw [dm_f hA]
      refine r_iconst hC 0 d_BareAlike_17 (by decide) ?_
      exact r_zret hC d_BareAlike_18 (Or.inl rfl) (Nat.le_refl _) (Nat.le_refl _) ⟨_, rfl, rfl, rfl⟩
  intro n
  induction n with
  | zero =>
    intro o ho hh
    exact main 0 o ho hh (fun c hc => by rw [ht_0 hW hh] at hc; cases hc)
  | succ n ih =>
    intro o ho hh
    exact main (n + 1) o ho hh (fun c hc hc40 => ih c hc40 (ht_dn hW hc hh))
noncomputable def aAlk (G : GS) (x y : Int32) : Int32 := match ix 4 x, ix 4 y with
  | some a, some b => b2i (dm (ALK (tr G a) (tr G b) 0 ∧ ALK (tr G a) (tr G b) 40))
  | _, _ => 0
theorem c_Balike (l : Launch) (Θ : Glob) (M : Mem) (X : Nat) (A : BA) (G : GS) (hG : GI G) (hB : BT M X A G) (x y : Int32) : Ct l Θ y_Balike 14 0 0 [.ref X, .int x, .int y] M (pI fun r M1 => r = aAlk G x y ∧ M1 = M) := by
  have hB0 := hB
  obtain ⟨⟨⟨a1, a2, a3, a4, a5, a6⟩, ⟨b1, b2⟩, ⟨c1, c2, c3, c4⟩, ⟨e1, e2, e3, e4⟩⟩, hRw, hGl, hNd⟩ := hB
  have hn300 := hG.1.1
  have hob := hG.2.1
  have hsz := b1.len
  rw [rwL_len] at hsz
  refine Ct.start (cc := b_Balike) (nL := 3) (ret := (some .boolean)) [some (.ref X), some (.int x), some (.int y)] mi_Balike.1 (by decide +kernel) (by intro v hv; simp at hv; rcases hv with rfl | rfl | rfl <;> rfl) (by simp) rfl (fun p e s m args below meth c hC => ?_)
  have no : aAlk G x y = 0 → Gj p l e (rmo 14 0 0) s m args below meth c Θ M [some (.ref X), some (.int x), some (.int y)] 0 0 (Fn below args s Θ 0 0 (pI fun r M1 => r = aAlk G x y ∧ M1 = M)) 72 [] := by
    intro hz
    rw [hz]
    refine r_iconst hC 0 d_Balike_72 (by decide) ?_
    exact r_zret hC d_Balike_73 (Or.inl rfl) (Nat.le_refl _) (Nat.le_refl _) ⟨_, rfl, rfl, rfl⟩
  refine r_iload_n hC 1 d_Balike_0 rfl rfl ?_
  refine r_iconst hC 4 d_Balike_1 (by decide) ?_
  refine r_cSi hC [.int x, .int (nI 4)] rfl (c_BisIn l Θ M x 4 (by omega)) mi_BisIn lk_B56 in_BisIn rfl (Nat.le_of_ble_eq_true rfl) ⟨Nat.le_of_ble_eq_true rfl, Nat.le_of_ble_eq_true rfl⟩ ⟨Nat.le_of_ble_eq_true rfl, Nat.le_of_ble_eq_true rfl⟩ d_Balike_2 (fun r M1 h1 => ?_)
  obtain ⟨rfl, rfl⟩ := h1
  rcases ix_cases 4 x (by omega) with ⟨a, ha, rfl, ex⟩ | ⟨-, ex⟩
  · rw [ex]
    refine r_if_eq hC 72 d_Balike_5 (by decide) (fun z => absurd z i10) (fun _ => ?_)
    refine r_iload_n hC 2 d_Balike_8 rfl rfl ?_
    refine r_iconst hC 4 d_Balike_9 (by decide) ?_
    refine r_cSi hC [.int y, .int (nI 4)] rfl (c_BisIn l Θ M1 y 4 (by omega)) mi_BisIn lk_B56 in_BisIn rfl (Nat.le_of_ble_eq_true rfl) ⟨Nat.le_of_ble_eq_true rfl, Nat.le_of_ble_eq_true rfl⟩ ⟨Nat.le_of_ble_eq_true rfl, Nat.le_of_ble_eq_true rfl⟩ d_Balike_10 (fun r M2 h2 => ?_)
    obtain ⟨rfl, rfl⟩ := h2
    rcases ix_cases 4 y (by omega) with ⟨b, hb, rfl, ey⟩ | ⟨-, ey⟩
    · rw [ey]
      have ea : aAlk G (nI a) (nI b) = b2i (dm (ALK (tr G a) (tr G b) 0 ∧ ALK (tr G a) (tr G b) 40)) := by unfold aAlk; rw [ex, ey]
      obtain ⟨hX1, -, -, -, -, -⟩ := hNd a ha
      obtain ⟨hX2, -, -, -, -, -⟩ := hNd b hb
      have hT1 := hX1.1.1
      have hT2 := hX2.1.1
      have hP1 : PA M2 (nA (bD A a)) (nC (bD A a)) (tr G a) (vC (qD G a)) := hX1.2.1
      have hP2 : PA M2 (nA (bD A b)) (nC (bD A b)) (tr G b) (vC (qD G b)) := hX2.2.1
      have con := c_BareAlike l Θ M2 _ _ _ _ hP1 (hG.wf ha) _ _ _ _ hP2 (hG.wf hb) 8
      refine r_if_eq hC 72 d_Balike_13 (by decide) (fun z => absurd z i10) (fun _ => ?_)
      refine r_aload_n hC 0 d_Balike_16 rfl rfl ?_
      refine r_getS hC 0 1 1 fl_B18 (by exact a1) d_Balike_17 rfl rfl (by exact a4) ?_
      refine r_iload_n hC 1 d_Balike_20 rfl rfl ?_
      refine r_aaldS hC 5 a (by rw [c1]; rfl) (by omega) rfl (by rw [c3]; exact ha) (by rw [c3]; omega) d_Balike_21 (c4 a ha) ?_
      refine r_getS hC 4 1 129 fl_B108 (by exact hT1.1) d_Balike_22 rfl rfl (by exact hT1.2.1) ?_
      refine r_iconst hC 0 d_Balike_25 (by decide) ?_
      refine r_aaldS hC 3 0 (by rw [hT1.2.2.2.2.2.2.1]; rfl) (by omega) rfl (by rw [hT1.2.2.2.2.2.2.2.1]; omega) (by rw [hT1.2.2.2.2.2.2.2.1]; omega) d_Balike_26 (hT1.2.2.2.2.2.2.2.2 0 (by omega)) ?_
      refine r_aload_n hC 0 d_Balike_27 rfl rfl ?_
      refine r_getS hC 0 1 1 fl_B18 (by exact a1) d_Balike_28 rfl rfl (by exact a4) ?_
      refine r_iload_n hC 2 d_Balike_31 rfl rfl ?_
      refine r_aaldS hC 5 b (by rw [c1]; rfl) (by omega) rfl (by rw [c3]; exact hb) (by rw [c3]; omega) d_Balike_32 (c4 b hb) ?_
      refine r_getS hC 4 1 129 fl_B108 (by exact hT2.1) d_Balike_33 rfl rfl (by exact hT2.2.1) ?_
      refine r_iconst hC 0 d_Balike_36 (by decide) ?_
      refine r_aaldS hC 3 0 (by rw [hT2.2.2.2.2.2.2.1]; rfl) (by omega) rfl (by rw [hT2.2.2.2.2.2.2.2.1]; omega) (by rw [hT2.2.2.2.2.2.2.2.1]; omega) d_Balike_37 (hT2.2.2.2.2.2.2.2.2 0 (by omega)) ?_
      refine r_cSi hC [.ref (nA (bD A a) 0), .ref (nA (bD A b) 0)] rfl (con 0 (by omega) (ht_8 (hG.wf ha) (Or.inl rfl))) mi_BareAlike lk_B174 in_BareAlike rfl (Nat.le_of_ble_eq_true rfl) ⟨Nat.le_of_ble_eq_true rfl, Nat.le_of_ble_eq_true rfl⟩ ⟨Nat.le_of_ble_eq_true rfl, Nat.le_of_ble_eq_true rfl⟩ d_Balike_38 (fun r M3 h3 => ?_)
      obtain ⟨rfl, rfl⟩ := h3
      refine r_if_eq hC 72 d_Balike_41 (by decide) (fun z => no ?_) (fun z => ?_)
      · rw [ea, dm_f (fun q => ?_)]
        · rfl
        · rw [dm_t q.1] at z; exact i10 z
      have h0 := dm_iff.mp (b2i_ne z)
      refine r_aload_n hC 0 d_Balike_44 rfl rfl ?_
      refine r_getS hC 0 1 1 fl_B18 (by exact a1) d_Balike_45 rfl rfl (by exact a4) ?_
      refine r_iload_n hC 1 d_Balike_48 rfl rfl ?_
      refine r_aaldS hC 5 a (by rw [c1]; rfl) (by omega) rfl (by rw [c3]; exact ha) (by rw [c3]; omega) d_Balike_49 (c4 a ha) ?_
      refine r_getS hC 4 2 130 fl_B149 (by exact hT1.1) d_Balike_50 rfl rfl (by exact hT1.2.2.1) ?_
      refine r_aload_n hC 0 d_Balike_53 rfl rfl ?_
      refine r_getS hC 0 1 1 fl_B18 (by exact a1) d_Balike_54 rfl rfl (by exact a4) ?_
      refine r_iload_n hC 2 d_Balike_57 rfl rfl ?_
      refine r_aaldS hC 5 b (by rw [c1]; rfl) (by omega) rfl (by rw [c3]; exact hb) (by rw [c3]; omega) d_Balike_58 (c4 b hb) ?_
      refine r_getS hC 4 2 130 fl_B149 (by exact hT2.1) d_Balike_59 rfl rfl (by exact hT2.2.2.1) ?_
      refine r_cSi hC [.ref (nA (bD A a) 40), .ref (nA (bD A b) 40)] rfl (con 40 (by omega) (ht_8 (hG.wf ha) (Or.inr rfl))) mi_BareAlike lk_B174 in_BareAlike rfl (Nat.le_of_ble_eq_true rfl) ⟨Nat.le_of_ble_eq_true rfl, Nat.le_of_ble_eq_true rfl⟩ ⟨Nat.le_of_ble_eq_true rfl, Nat.le_of_ble_eq_true rfl⟩ d_Balike_62 (fun r M4 h4 => ?_)
      obtain ⟨rfl, rfl⟩ := h4
      refine r_if_eq hC 72 d_Balike_65 (by decide) (fun z => no ?_) (fun z => ?_)
      · rw [ea, dm_f (fun q => ?_)]
        · rfl
        · rw [dm_t q.2] at z; exact i10 z
      have h40 := dm_iff.mp (b2i_ne z)
      rw [ea, dm_t ⟨h0, h40⟩]
      refine r_iconst hC 1 d_Balike_68 (by decide) ?_
      refine r_goto hC 73 d_Balike_69 (by decide) ?_
      exact r_zret hC d_Balike_73 (Or.inr rfl) (Nat.le_refl _) (Nat.le_refl _) ⟨_, rfl, rfl, rfl⟩
    · rw [ey]
      refine r_if_eq hC 72 d_Balike_13 (by decide) (fun _ => no (by unfold aAlk; rw [ex, ey])) (fun z => absurd rfl z)
  · rw [ex]
    refine r_if_eq hC 72 d_Balike_5 (by decide) (fun _ => no (by unfold aAlk; rw [ex])) (fun z => absurd rfl z)
