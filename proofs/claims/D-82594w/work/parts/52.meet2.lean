theorem r_empE {p : Program} {l : Launch} {e : Env} {R : Room} {s : State} {m : MethodId} {args : Array Value} {below : List Frame} {meth : Method} {c : Code} {Θ : Glob} {M : Mem} {L : List (Option Value)} {cells slots : Nat} {Q : State → Prop} {pc : Nat} {st : List Value} (k : kd M Θ.E = 30 → ln M Θ.E = 0 → Gj p l e R s m args below meth c Θ M L cells slots Q pc st) : Gj p l e R s m args below meth c Θ M L cells slots Q pc st :=
  fun H locs ls hRp hL hl => k hRp.em.1 (hRp.em.2 _ hRp.em.1).2 H locs ls hRp hL hl
/-- a fresh list -/
theorem new_list {M N : Mem} {q oo E : Nat} (hq : kd M q = 0) (hE : kd M E = 30) (hlE : ln M E = 0) (hN : N = sR (sI (nwO M q 7 oo) 194 q 0) 192 q (some E)) : Lst N q [] 0 ∧ ow N q = oo ∧ Fr (fun _ => False) M N := by
  have hqE : E ≠ q := fun z => by rw [z] at hE; omega
  have hf : Fr (fun _ => False) M N := by
    rw [hN]
    refine ((nwO_fr hq).trans (sI_fr _ _ _ _) (fun b hb z => ?_)).trans (sR_fr _ _ _ _) (fun b hb z => ?_)
    all_goals (have z : b = q := z; rw [z] at hb; exact hb hq)
  have sE := hf.2 E (by omega) (fun z => z)
  refine ⟨⟨?_, E, ?_, Or.inr ⟨by rw [sE.1, hE], rfl⟩, ?_, by rw [sE.2.2.2.1, hlE], Nat.le_refl _, by omega, fun i hi => absurd hi (Nat.not_lt_zero _)⟩, ?_, hf⟩
  · rw [hN]; exact va_up_self _ _ _
  · rw [hN]; exact up2_self _ _ _ _
  · rw [hN]; exact if_pos rfl
  · rw [hN]; exact va_up_self _ _ _
theorem meet_scan {l : Launch} {Θ : Glob} {p : Program} {e : Env} {s : State} {m : MethodId} {args : Array Value} {below : List Frame} {meth : Method} {c : Code} (hC : Cx p s m args meth c Θ y_Bmeet b_Bmeet 7 (some .int)) {M : Mem} {X K T k u : Nat} (hk : k < 4) (hu : u < 4) {A : BA} {G : GS} (hG : GI G) {PP : Option Value → Mem → Prop}
    (fin : ∀ (M1 : Mem) (cl sl : Nat) (w5 w6 : Option Value), MS M M1 X A G K (mtL G k u) → ow M1 T = 12 → cl ≤ 22 → sl ≤ 1207 → Gj p l e (rmo 19 600 10000) s m args below meth c Θ M1 [some (.ref X), some (.int (nI k)), some (.int (nI u)), some (.ref K), some (.ref T), w5, w6] cl sl (Fn below args s Θ 600 10000 PP) 148 []) :
    ∀ (r i : Nat) (M1 : Mem) (cl sl : Nat) (w5 w6 : Option Value), i + r = qN G → MS M M1 X A G K (lkL (qR G) (mtP G k u) i) → ItO M1 T (bL A) i → ow M1 T = 12 → cl ≤ 2 + cG (lkL (qR G) (mtP G k u) i).length → sl ≤ 7 + sG (lkL (qR G) (mtP G k u) i).length → Gj p l e (rmo 19 600 10000) s m args below meth c Θ M1 [some (.ref X), some (.int (nI k)), some (.int (nI u)), some (.ref K), some (.ref T), w5, w6] cl sl (Fn below args s Θ 600 10000 PP) 40 [] := by
  have hn300 := hG.1.1
  have hcB : ∀ i, i ≤ qN G → cG (lkL (qR G) (mtP G k u) i).length ≤ 20 ∧ sG (lkL (qR G) (mtP G k u) i).length ≤ 1200 := fun i hi => by
    have hl := lkL_len (qR G) (mtP G k u) i
    exact ⟨Nat.le_trans (cG_mono (by omega)) cG_300, Nat.le_trans (sG_mono (by omega)) sG_300⟩
  intro r
  induction r with
  | zero =>
    intro i M1 cl sl w5 w6 hi hS hI hoT hcl hsl
    have hi : i = qN G := hi
    subst hi
    have hb := hcB (qN G) (Nat.le_refl _)
    obtain ⟨hB, hFr, hL, hoK⟩ := hS
    have hLr := hB.1.2.1.1
    refine r_aload hC 4 d_Bmeet_40 rfl ?_
    refine r_cF hC [] rfl (c_IhasNext l Θ M1 T (bL A) (qN G) _ _ hI hLr (by rw [rwL_len]; exact Nat.le_refl _)) mi_IhasNext fc_hasNext (ci := 7) rfl (by exact hI.1) rfl (Nat.le_of_ble_eq_true rfl) ⟨Nat.le_of_ble_eq_true rfl, Nat.le_of_ble_eq_true rfl⟩ ⟨by show cl + 0 ≤ 600; omega, by show sl + 0 ≤ 10000; omega⟩ d_Bmeet_42 (fun v M8 hv8 => ?_)
    obtain ⟨r, rfl, rfl, rfl⟩ := hv8
    rw [rwL_len, decide_eq_false (by omega)]
    refine r_if_eq hC 148 d_Bmeet_47 (by decide) (fun _ => ?_) (fun z => absurd rfl z)
    exact fin M8 _ _ _ _ ⟨hB, hFr, hL, hoK⟩ hoT (by omega) (by omega)
  | succ r ih =>
    intro i M1 cl sl w5 w6 hi hS hI hoT hcl hsl
    have hb := hcB i (by omega)
    have hxs := lkL_len (qR G) (mtP G k u) i
    have hsrt := lkL_srt hG.1 (mtP G k u) i (by omega)
    have hkey := lkL_key hG.1 (mtP G k u) (i := i) (by omega)
    have hmem := lkL_mem (qR G) (mtP G k u) i
    have hstep : lkL (qR G) (mtP G k u) (i + 1) = if mtP G k u (i + 1) = true then insN (qR G) (i + 1) (lkL (qR G) (mtP G k u) i) else lkL (qR G) (mtP G k u) i := rfl
    have ih2 := ih (i + 1)
    rw [hstep] at ih2
    generalize lkL (qR G) (mtP G k u) i = xs at *
    obtain ⟨hB, hFr, hL, hoK⟩ := hS
    have hLr := hB.1.2.1.1
    have hgj : (rwL (bR A) (qN G))[i]? = some (bR A (i + 1)) := rwL_get (by omega)
    refine r_aload hC 4 d_Bmeet_40 rfl ?_
    refine r_cF hC [] rfl (c_IhasNext l Θ M1 T (bL A) i _ _ hI hLr (by rw [rwL_len]; omega)) mi_IhasNext fc_hasNext (ci := 7) rfl (by exact hI.1) rfl (Nat.le_of_ble_eq_true rfl) ⟨Nat.le_of_ble_eq_true rfl, Nat.le_of_ble_eq_true rfl⟩ ⟨by show cl + 0 ≤ 600; omega, by show sl + 0 ≤ 10000; omega⟩ d_Bmeet_42 (fun v M8 hv8 => ?_)
    obtain ⟨r, rfl, rfl, rfl⟩ := hv8
    rw [rwL_len, decide_eq_true (by omega)]
    refine r_if_eq hC 148 d_Bmeet_47 (by decide) (fun z => absurd z i10) (fun _ => ?_)
    refine r_aload hC 4 d_Bmeet_50 rfl ?_
    refine r_cF hC [] rfl (c_Inext l Θ M8 T (bL A) i _ _ (bR A (i + 1)) hI hLr hgj) mi_Inext fc_next (ci := 7) rfl (by exact hI.1) rfl (Nat.le_of_ble_eq_true rfl) ⟨Nat.le_of_ble_eq_true rfl, Nat.le_of_ble_eq_true rfl⟩ ⟨by show cl + 0 + 0 ≤ 600; omega, by show sl + 0 + 0 ≤ 10000; omega⟩ d_Bmeet_52 (fun v M9 hv9 => ?_)
    obtain ⟨r, rfl, rfl, hI9, f9⟩ := hv9
    have hkT := hI.1
    have hkK := hL.1
    have hB9 := BTu.fr hB f9 (z_it hkT hoT)
    have hBT9 : BT M9 X A G := hB9.1
    have hL9 := hL.fr (f9.2 K (by omega) (one_ne hkK hkT (by omega))) (fun b hb => f9.2 b (by omega) (one_ne hb hkT (by omega))) (fun b hb => f9.2 b (by omega) (one_ne hb hkT (by omega)))
    have hoK9 : ow M9 K = 12 := (f9.1 K (by omega)).2.trans hoK
    have hoT9 : ow M9 T = 12 := (f9.1 T (by omega)).2.trans hoT
    have hF9 := hFr.trans hB9.2 (BZ.old hFr)
    obtain ⟨⟨⟨a1, a2, a3, a4, a5, a6⟩, ⟨b1, b2⟩, ⟨c1, c2, c3, c4⟩, -⟩, hRw, hGl, hNd⟩ := id hB9.1
    have hr := hRw (i + 1) (by omega) (by omega)
    obtain ⟨hX1, hK1, -, -, -, -⟩ := id (hNd u hu)
    obtain ⟨hX2, hK2, -, -, -, -⟩ := id (hNd k hk)
    have hT1 := hX1.1.1
    have hT2 := hX2.1.1
    have hv1 := hK1.2.2.2 (i + 1) (by omega)
    have hv2 := hK2.2.2.2 (i + 1) (by omega)
    have hS9 : MS M M9 X A G K xs := ⟨hBT9, hF9, hL9, hoK9⟩
    refine r_cast hC 2 rfl hr.1 cl_B37 ca_RR d_Bmeet_57 ?_
    refine r_as5 hC d_Bmeet_60 ?_
    refine r_aload_n hC 0 d_Bmeet_62 rfl rfl ?_
    refine r_getS hC 0 1 1 fl_B18 (by exact a1) d_Bmeet_63 rfl rfl (by exact a4) ?_
    refine r_iload_n hC 2 d_Bmeet_66 rfl rfl ?_
    refine r_aaldS hC 5 u (by rw [c1]; rfl) (by omega) rfl (by rw [c3]; exact hu) (by rw [c3]; omega) d_Bmeet_67 (c4 u hu) ?_
    refine r_getS hC 4 4 132 fl_B80 (by exact hT1.1) d_Bmeet_68 rfl rfl (by exact hT1.2.2.2.2.1) ?_
    refine r_aload hC 5 d_Bmeet_71 rfl ?_
    refine r_cVi hC [] rfl (c_Rnumber l Θ M9 (bR A (i + 1)) hr.1) mi_Rnumber lk_B53 in_Rnumber (ci := 2) rfl rfl (by exact hr.1) rfl (Nat.le_of_ble_eq_true rfl) ⟨Nat.le_of_ble_eq_true rfl, Nat.le_of_ble_eq_true rfl⟩ ⟨by show cl + 0 + 0 + 0 ≤ 600; omega, by show sl + 0 + 0 + 0 ≤ 10000; omega⟩ d_Bmeet_73 (fun r M7 h7 => ?_)
    obtain ⟨rfl, rfl⟩ := h7
    rw [hr.2.1]
    refine r_aald hC 4 (i + 1) (by rw [hK1.1]; rfl) (by omega) rfl (by rw [hK1.2.1]; omega) (by rw [hK1.2.1]; omega) d_Bmeet_76 hv1 ?_
    cases hk1 : vK (qD G u) (i + 1) with
    | false =>
      have hP : mtP G k u (i + 1) = false := by unfold mtP; rw [hk1]; rfl
      refine r_ifnull hC (r := none) 40 d_Bmeet_77 (by decide) (fun _ => ?_) (fun _ q => by cases q)
      rw [hP] at ih2
      exact ih2 M7 _ _ _ _ (by omega) hS9 hI9 hoT9 hcl hsl
    | true =>
      refine r_ifnull hC (r := some (bS A u (i + 1))) 40 d_Bmeet_77 (by decide) (fun q => by cases q) (fun _ _ => ?_)
      refine r_aload_n hC 0 d_Bmeet_80 rfl rfl ?_
      refine r_getS hC 0 1 1 fl_B18 (by exact a1) d_Bmeet_81 rfl rfl (by exact a4) ?_
      refine r_iload_n hC 1 d_Bmeet_84 rfl rfl ?_
      refine r_aaldS hC 5 k (by rw [c1]; rfl) (by omega) rfl (by rw [c3]; exact hk) (by rw [c3]; omega) d_Bmeet_85 (c4 k hk) ?_
      refine r_getS hC 4 4 132 fl_B80 (by exact hT2.1) d_Bmeet_86 rfl rfl (by exact hT2.2.2.2.2.1) ?_
      refine r_aload hC 5 d_Bmeet_89 rfl ?_
      refine r_cVi hC [] rfl (c_Rnumber l Θ M7 (bR A (i + 1)) hr.1) mi_Rnumber lk_B53 in_Rnumber (ci := 2) rfl rfl (by exact hr.1) rfl (Nat.le_of_ble_eq_true rfl) ⟨Nat.le_of_ble_eq_true rfl, Nat.le_of_ble_eq_true rfl⟩ ⟨by show cl + 0 + 0 + 0 + 0 ≤ 600; omega, by show sl + 0 + 0 + 0 + 0 ≤ 10000; omega⟩ d_Bmeet_91 (fun r M6 h6 => ?_)
      obtain ⟨rfl, rfl⟩ := h6
      rw [hr.2.1]
      refine r_aald hC 4 (i + 1) (by rw [hK2.1]; rfl) (by omega) rfl (by rw [hK2.2.1]; omega) (by rw [hK2.2.1]; omega) d_Bmeet_94 hv2 ?_
      cases hk2 : vK (qD G k) (i + 1) with
      | true =>
        have hP : mtP G k u (i + 1) = false := by unfold mtP; rw [hk1, hk2]; rfl
        refine r_ifnull hC (r := some (bS A k (i + 1))) 101 d_Bmeet_95 (by decide) (fun q => by cases q) (fun _ _ => ?_)
        rw [hP] at ih2
        refine r_goto hC 40 d_Bmeet_98 (by decide) ?_
        exact ih2 M6 _ _ _ _ (by omega) hS9 hI9 hoT9 hcl hsl
      | false =>
        have hP : mtP G k u (i + 1) = true := by unfold mtP; rw [hk1, hk2]; rfl
        rw [if_pos hP] at ih2
        refine r_ifnull hC (r := none) 101 d_Bmeet_95 (by decide) (fun _ => ?_) (fun _ q => by cases q)
        obtain ⟨-, si1, si2⟩ := srt_ins hsrt hkey
        have hple : plc (qR G) (i + 1) xs ≤ xs.length := tw_le
        have hszK := hL9.len
        rw [List.length_map] at hszK
        have hbd : ∀ x, rT (qR G x) < 2 ^ 30 ∧ rW (qR G x) < 2 ^ 30 := fun x => by have := hG.1.2.1 x; omega
        have hrx : ∀ x ∈ xs, RwO M6 (bR A x) x (qR G x) := fun x hx => by
          have := (hmem x).mp hx
          exact hRw x this.1 (by omega)
        have add : Gj p l e (rmo 19 600 10000) s m args below meth c Θ M6 [some (.ref X), some (.int (nI k)), some (.int (nI u)), some (.ref K), some (.ref T), some (.ref (bR A (i + 1))), some (.int (nI (plc (qR G) (i + 1) xs)))] cl sl (Fn below args s Θ 600 10000 PP) 137 [] := by
          have con := c_Aadd2 l Θ M6 K (plc (qR G) (i + 1) xs) (bR A (i + 1)) (capL xs.length) (xs.map (bR A)) hL9 (by rw [List.length_map]; exact hple) ⟨2, hr.1, as_22⟩ (fun z hz => by
            obtain ⟨x, hx, rfl⟩ := List.mem_map.mp hz
            exact ⟨2, (hrx x hx).1, as_22⟩) (by have := capL_lt xs.length (by omega); omega)
          rw [List.length_map] at con
          have hg1 : cG (xs.length + 1) = cG xs.length + gC xs.length (capL xs.length) := rfl
          have hg2 : sG (xs.length + 1) = sG xs.length + gS xs.length (capL xs.length) := rfl
          have hg3 := Nat.le_trans (cG_mono (a := xs.length + 1) (b := 301) (by omega)) cG_300
          have hg4 := Nat.le_trans (sG_mono (a := xs.length + 1) (b := 301) (by omega)) sG_300
          refine r_aload_n hC 3 d_Bmeet_137 rfl rfl ?_
          refine r_iload hC 6 d_Bmeet_138 rfl ?_
          refine r_aload hC 5 d_Bmeet_140 rfl ?_
          refine r_cVv hC [.int (nI (plc (qR G) (i + 1) xs)), .ref (bR A (i + 1))] rfl (con) mi_Aadd2 lk_B105 in_Aadd2 (ci := 6) rfl rfl (by exact hL9.1) rfl (Nat.le_of_ble_eq_true rfl) ⟨Nat.le_of_ble_eq_true rfl, Nat.le_of_ble_eq_true rfl⟩ ⟨by show cl + gC xs.length (capL xs.length) ≤ 600; omega, by show sl + gS xs.length (capL xs.length) ≤ 10000; omega⟩ d_Bmeet_142 (fun M5 h5 => ?_)
          obtain ⟨q, g, hq, hg, hM5⟩ := h5
          have f5 := stL_fr (cap := gcap xs.length (capL xs.length)) (n := xs.length + 1) (z := fI M6 194 K + 1) (g := g) hq.own
          rw [← hM5] at f5
          have hkK9 := hL9.1
          have hkT9 := hI9.1
          have hB5 := BTu.fr hB9.1 f5 (z_ls hkK9 hoK9)
          have hgt : xs.length < gcap xs.length (capL xs.length) := by
            have := capL_le xs.length
            unfold gcap
            split
            · assumption
            · have := ncap_gt (capL xs.length); omega
          have hcl3 : gcap xs.length (capL xs.length) < 1000 := capL_lt (xs.length + 1) (by omega)
          have hL5 : Lst M5 K ((insN (qR G) (i + 1) xs).map (bR A)) (gcap xs.length (capL xs.length)) := by
            rw [hM5]
            refine stL_lst hkK9 hq.own (by rw [List.length_map, insN_len]) (by omega) (by omega) (by omega) (fun y hy => ?_)
            rw [hg y hy]
            have e1 := map_app (bR A) (xs.take (plc (qR G) (i + 1) xs)) (xs.drop (plc (qR G) (i + 1) xs)) (i + 1)
            rw [List.take_append_drop, List.length_take, Nat.min_eq_left hple] at e1
            rw [e1]
            rfl
          have hoK5 : ow M5 K = 12 := (f5.1 K (by omega)).2.trans hoK9
          have nT : ¬ (T = K ∨ kd M6 T = 1000 + K) := fun z => by
            rcases z with z | z
            · exact one_ne hkT9 hkK9 (by omega) z
            · omega
          have hkR := b1.1
          have nR : ¬ (bL A = K ∨ kd M6 (bL A) = 1000 + K) := fun z => by
            rcases z with z | z
            · rw [z, hoK9] at b2; omega
            · omega
          have hI5 := hI9.lb hoT9 (by omega) nR f5 nT
          refine r_goto hC 40 d_Bmeet_145 (by decide) ?_
          refine ih2 M5 _ _ _ _ (by omega) ⟨hB5.1, hF9.trans hB5.2 (BZ.old hF9), ?_, hoK5⟩ hI5.1 hI5.2 ?_ ?_
          · rw [insN_len]; exact hL5
          · rw [insN_len]; omega
          · rw [insN_len]; omega
        have loop : ∀ n : Nat, plc (qR G) (i + 1) xs + n ≤ xs.length → Gj p l e (rmo 19 600 10000) s m args below meth c Θ M6 [some (.ref X), some (.int (nI k)), some (.int (nI u)), some (.ref K), some (.ref T), some (.ref (bR A (i + 1))), some (.int (nI (plc (qR G) (i + 1) xs + n)))] cl sl (Fn below args s Θ 600 10000 PP) 107 [] := by
          intro n
          induction n with
          | zero =>
            intro hn
            refine r_iload hC 6 d_Bmeet_107 rfl ?_
            refine r_if_le hC 137 d_Bmeet_109 (by decide) (fun _ => add) (fun z => ?_)
            have hp0 : plc (qR G) (i + 1) xs ≠ 0 := fun q => z (by rw [q]; decide)
            obtain ⟨x, hx, hxm⟩ := get_some (l := xs) (i := plc (qR G) (i + 1) xs - 1) (by omega)
            have hbx := si1 _ x (by omega) hx
            have hrxx := hrx x hxm
            refine r_aload hC 5 d_Bmeet_112 rfl ?_
            refine r_aload_n hC 3 d_Bmeet_114 rfl rfl ?_
            refine r_iload hC 6 d_Bmeet_115 rfl ?_
            refine r_iconst hC 1 d_Bmeet_117 (by decide) ?_
            refine r_isub hC (nI (plc (qR G) (i + 1) xs - 1)) d_Bmeet_118 (by rw [Nat.add_zero, show (1 : Int32) = nI 1 from rfl, pk_sub (by omega)]) ?_
            refine r_cVr hC [.int (nI (plc (qR G) (i + 1) xs - 1))] rfl (c_Aget l Θ M6 K (plc (qR G) (i + 1) xs - 1) _ _ hL9 (by simp; omega)) mi_Aget lk_B70 in_Aget (ci := 6) rfl rfl (by exact hL9.1) rfl (Nat.le_of_ble_eq_true rfl) ⟨Nat.le_of_ble_eq_true rfl, Nat.le_of_ble_eq_true rfl⟩ ⟨by show cl + 0 ≤ 600; omega, by show sl + 0 ≤ 10000; omega⟩ d_Bmeet_119 (fun r M5 h5 => ?_)
            obtain ⟨rfl, rfl⟩ := h5
            rw [map_get hx]
            refine r_cast hC 2 rfl hrxx.1 cl_B37 ca_RR d_Bmeet_122 ?_
            refine r_cVi hC [.ref (bR A x)] rfl (c_RisBefore l Θ M5 (bR A (i + 1)) (bR A x) (i + 1) x (qR G (i + 1)) (qR G x) hr hrxx (hbd _).1 (hbd _).1 (hbd _).2 (hbd _).2) mi_RisBefore lk_B101 in_RisBefore (ci := 2) rfl rfl (by exact hr.1) rfl (Nat.le_of_ble_eq_true rfl) ⟨Nat.le_of_ble_eq_true rfl, Nat.le_of_ble_eq_true rfl⟩ ⟨by show cl + 0 + 0 ≤ 600; omega, by show sl + 0 + 0 ≤ 10000; omega⟩ d_Bmeet_125 (fun r M4 h4 => ?_)
            obtain ⟨rfl, rfl⟩ := h4
            refine r_if_eq hC 137 d_Bmeet_128 (by decide) (fun _ => add) (fun q => absurd (by rw [hbx]; rfl) q)
          | succ n ihn =>
            intro hn
            obtain ⟨x, hx, hxm⟩ := get_some (l := xs) (i := plc (qR G) (i + 1) xs + n) (by omega)
            have hbx := si2 _ x (by omega) hx
            have hrxx := hrx x hxm
            refine r_iload hC 6 d_Bmeet_107 rfl ?_
            refine r_if_le hC 137 d_Bmeet_109 (by decide) (fun z => absurd z (nI_nle (by omega) (by omega))) (fun _ => ?_)
            refine r_aload hC 5 d_Bmeet_112 rfl ?_
            refine r_aload_n hC 3 d_Bmeet_114 rfl rfl ?_
            refine r_iload hC 6 d_Bmeet_115 rfl ?_
            refine r_iconst hC 1 d_Bmeet_117 (by decide) ?_
            refine r_isub hC (nI (plc (qR G) (i + 1) xs + n)) d_Bmeet_118 (nI_pred _) ?_
            refine r_cVr hC [.int (nI (plc (qR G) (i + 1) xs + n))] rfl (c_Aget l Θ M6 K (plc (qR G) (i + 1) xs + n) _ _ hL9 (by simp; omega)) mi_Aget lk_B70 in_Aget (ci := 6) rfl rfl (by exact hL9.1) rfl (Nat.le_of_ble_eq_true rfl) ⟨Nat.le_of_ble_eq_true rfl, Nat.le_of_ble_eq_true rfl⟩ ⟨by show cl + 0 ≤ 600; omega, by show sl + 0 ≤ 10000; omega⟩ d_Bmeet_119 (fun r M5 h5 => ?_)
            obtain ⟨rfl, rfl⟩ := h5
            rw [map_get hx]
            refine r_cast hC 2 rfl hrxx.1 cl_B37 ca_RR d_Bmeet_122 ?_
            refine r_cVi hC [.ref (bR A x)] rfl (c_RisBefore l Θ M5 (bR A (i + 1)) (bR A x) (i + 1) x (qR G (i + 1)) (qR G x) hr hrxx (hbd _).1 (hbd _).1 (hbd _).2 (hbd _).2) mi_RisBefore lk_B101 in_RisBefore (ci := 2) rfl rfl (by exact hr.1) rfl (Nat.le_of_ble_eq_true rfl) ⟨Nat.le_of_ble_eq_true rfl, Nat.le_of_ble_eq_true rfl⟩ ⟨by show cl + 0 + 0 ≤ 600; omega, by show sl + 0 + 0 ≤ 10000; omega⟩ d_Bmeet_125 (fun r M4 h4 => ?_)
            obtain ⟨rfl, rfl⟩ := h4
            refine r_if_eq hC 137 d_Bmeet_128 (by decide) (fun q => absurd q (by rw [hbx]; exact i10)) (fun _ => ?_)
            refine r_ii6 hC (nI (plc (qR G) (i + 1) xs + n)) d_Bmeet_131 (pk_m1 _) ?_
            refine r_goto hC 107 d_Bmeet_134 (by decide) ?_
            exact ihn (by omega)
        refine r_aload_n hC 3 d_Bmeet_101 rfl rfl ?_
        refine r_cVi hC [] rfl (c_Asize l Θ M6 K hL9.1) mi_Asize lk_B33 in_Asize (ci := 6) rfl rfl (by exact hL9.1) rfl (Nat.le_of_ble_eq_true rfl) ⟨Nat.le_of_ble_eq_true rfl, Nat.le_of_ble_eq_true rfl⟩ ⟨by show cl + 0 + 0 + 0 + 0 + 0 ≤ 600; omega, by show sl + 0 + 0 + 0 + 0 + 0 ≤ 10000; omega⟩ d_Bmeet_102 (fun r M5 h5 => ?_)
        obtain ⟨rfl, rfl⟩ := h5
        rw [hszK]
        refine r_is6 hC d_Bmeet_105 ?_
        have h3 := loop (xs.length - plc (qR G) (i + 1) xs) (by omega)
        rw [show plc (qR G) (i + 1) xs + (xs.length - plc (qR G) (i + 1) xs) = xs.length by omega] at h3
        exact h3
theorem c_Bmeet (l : Launch) (Θ : Glob) (M : Mem) (X : Nat) (A : BA) (G : GS) (hG : GI G) (hB : BT M X A G) (x y : Int32) : Ct l Θ y_Bmeet 19 600 10000 [.ref X, .int x, .int y] M (pI fun r M1 => r = (aMeet G x y).1 ∧ (∃ A', BT M1 X A' (aMeet G x y).2) ∧ Fr (BZ M) M M1) := by
  have hB0 := hB
  obtain ⟨⟨⟨a1, a2, a3, a4, a5, a6⟩, ⟨b1, b2⟩, ⟨c1, c2, c3, c4⟩, ⟨e1, e2, e3, e4⟩⟩, hRw, hGl, hNd⟩ := hB
  have hn300 := hG.1.1
  have hob := hG.2.1
  have hsz := b1.len
  rw [rwL_len] at hsz
  refine Ct.start (cc := b_Bmeet) (nL := 7) (ret := (some .int)) [some (.ref X), some (.int x), some (.int y), none, none, none, none] mi_Bmeet.1 (by decide +kernel) (by intro v hv; simp at hv; rcases hv with rfl | rfl | rfl <;> rfl) (by simp) rfl (fun p e s m args below meth c hC => ?_)
  have no : aMeet G x y = (-1, G) → Gj p l e (rmo 19 600 10000) s m args below meth c Θ M [some (.ref X), some (.int x), some (.int y), none, none, none, none] 0 0 (Fn below args s Θ 600 10000 (pI fun r M1 => r = (aMeet G x y).1 ∧ (∃ A', BT M1 X A' (aMeet G x y).2) ∧ Fr (BZ M) M M1)) 21 [] := by
    intro hz
    rw [hz]
    refine r_iconst hC (-1) d_Bmeet_21 (by decide) ?_
    exact r_iret hC d_Bmeet_22 (Nat.zero_le _) (Nat.zero_le _) ⟨_, rfl, rfl, ⟨A, hB0⟩, Fr.rf⟩
  refine r_iload_n hC 1 d_Bmeet_0 rfl rfl ?_
  refine r_iconst hC 4 d_Bmeet_1 (by decide) ?_
  refine r_cSi hC [.int x, .int (nI 4)] rfl (c_BisIn l Θ M x 4 (by omega)) mi_BisIn lk_B56 in_BisIn rfl (Nat.le_of_ble_eq_true rfl) ⟨Nat.le_of_ble_eq_true rfl, Nat.le_of_ble_eq_true rfl⟩ ⟨Nat.le_of_ble_eq_true rfl, Nat.le_of_ble_eq_true rfl⟩ d_Bmeet_2 (fun r M1 h1 => ?_)
  obtain ⟨rfl, rfl⟩ := h1
  rcases ix_cases 4 x (by omega) with ⟨k, hk, rfl, ex⟩ | ⟨-, ex⟩
  · rw [ex]
    refine r_if_eq hC 21 d_Bmeet_5 (by decide) (fun z => absurd z i10) (fun _ => ?_)
    refine r_iload_n hC 2 d_Bmeet_8 rfl rfl ?_
    refine r_iconst hC 4 d_Bmeet_9 (by decide) ?_
    refine r_cSi hC [.int y, .int (nI 4)] rfl (c_BisIn l Θ M1 y 4 (by omega)) mi_BisIn lk_B56 in_BisIn rfl (Nat.le_of_ble_eq_true rfl) ⟨Nat.le_of_ble_eq_true rfl, Nat.le_of_ble_eq_true rfl⟩ ⟨Nat.le_of_ble_eq_true rfl, Nat.le_of_ble_eq_true rfl⟩ d_Bmeet_10 (fun r M2 h2 => ?_)
    obtain ⟨rfl, rfl⟩ := h2
    rcases ix_cases 4 y (by omega) with ⟨u, hu, rfl, ey⟩ | ⟨-, ey⟩
    · rw [ey]
      have ea : aMeet G (nI k) (nI u) = if k = u then (-1, G) else (nI (mtL G k u).length, gLs G k (mtL G k u)) := by unfold aMeet; rw [ex, ey]
      refine r_if_eq hC 21 d_Bmeet_13 (by decide) (fun z => absurd z i10) (fun _ => ?_)
      refine r_iload_n hC 1 d_Bmeet_16 rfl rfl ?_
      refine r_iload_n hC 2 d_Bmeet_17 rfl rfl ?_
      refine r_icmp_ne hC 23 d_Bmeet_18 (by decide) (fun z => ?_) (fun z => no (by rw [ea, if_pos ((nI_eq (by omega) (by omega)).mp z)]))
      rw [ea, if_neg (fun q => z (by rw [q]))]
      refine r_empE (fun hE hlE => ?_)
      refine r_new hC 6 12 rfl cl_B7 nw_6.1 nw_6.2 d_Bmeet_23 (by show 0 + 0 + 0 + 1 ≤ 600; omega) (by show 0 + 0 + 0 + 3 ≤ 10000; omega) (fun K hK0 hKB => ?_)
      refine r_dup hC d_Bmeet_26 rfl ?_
      refine r_cIv hC [] rfl (c_Ainit l Θ _ K (va_up_self _ _ _)) mi_Ainit lk_B9 in_Ainit rfl (Nat.le_of_ble_eq_true rfl) ⟨Nat.le_of_ble_eq_true rfl, Nat.le_of_ble_eq_true rfl⟩ ⟨Nat.le_of_ble_eq_true rfl, Nat.le_of_ble_eq_true rfl⟩ d_Bmeet_27 (fun M3 h3 => ?_)
      obtain ⟨hL3, hoK3, f3⟩ := new_list hK0 hE hlE h3
      have ff : ∀ g, For M2 g (fun _ => False) := fun g => ⟨fun _ z => z.elim, fun _ _ z => z.elim, fun _ z => z.elim⟩
      have hB3 := BTu.fr hB0 f3 (fun g _ => ff g)
      have k3 := hB3.1.1.1.1
      have k3' := hB3.1.1.1.2.2.1
      have kR3 := hB3.1.1.2.1.1.1
      refine r_as3 hC d_Bmeet_30 ?_
      refine r_aload_n hC 0 d_Bmeet_31 rfl rfl ?_
      refine r_getS hC 0 0 0 fl_B10 (by exact k3) d_Bmeet_32 rfl rfl (by exact k3') ?_
      refine r_cVr hC [] rfl (c_Aiterator l Θ M3 (bL A) kR3) mi_Aiterator lk_B87 in_Aiterator (ci := 6) rfl rfl (by exact kR3) rfl (Nat.le_of_ble_eq_true rfl) ⟨Nat.le_of_ble_eq_true rfl, Nat.le_of_ble_eq_true rfl⟩ ⟨Nat.le_of_ble_eq_true rfl, Nat.le_of_ble_eq_true rfl⟩ d_Bmeet_35 (fun r M4 h4 => ?_)
      obtain ⟨T, rfl, hT0, f4, hI4, hoT4⟩ := h4
      have ff3 : ∀ g, For M3 g (fun _ => False) := fun g => ⟨fun _ z => z.elim, fun _ _ z => z.elim, fun _ z => z.elim⟩
      have hB4 := BTu.fr hB3.1 f4 (fun g _ => ff3 g)
      have hL4 := Lst.lb hL3 hoK3 f4 (ff3 12)
      have hF4 := hB3.2.trans hB4.2 (BZ.old hB3.2)
      refine r_as4 hC d_Bmeet_38 ?_
      refine meet_scan hC (M := M2) hk hu hG (fun M5 cl sl w5 w6 hS5 hoT5 hcl hsl => ?_) (qN G) 0 M4 _ _ _ _ (by omega) ⟨hB4.1, hF4, hL4.1, hL4.2.1⟩ hI4 hoT4 (by show 0 + 0 + 0 + 1 + 0 + 1 ≤ 2 + 0; omega) (by show 0 + 0 + 0 + 3 + 0 + 4 ≤ 7 + 0; omega)
      obtain ⟨hB5, hF5, hL5, hoK5⟩ := hS5
      have hlen := lkL_len (qR G) (mtP G k u) (qN G)
      have hlen : (mtL G k u).length ≤ qN G := hlen
      have hpt := pC_le (qD G k)
      refine r_aload_n hC 3 d_Bmeet_148 rfl rfl ?_
      refine r_cVr hC [] rfl (c_Aiterator l Θ M5 K hL5.1) mi_Aiterator lk_B87 in_Aiterator (ci := 6) rfl rfl (by exact hL5.1) rfl (Nat.le_of_ble_eq_true rfl) ⟨Nat.le_of_ble_eq_true rfl, Nat.le_of_ble_eq_true rfl⟩ ⟨by show cl + 1 ≤ 600; omega, by show sl + 4 ≤ 10000; omega⟩ d_Bmeet_149 (fun r M6 h6 => ?_)
      obtain ⟨T2, rfl, hT20, f6, hI6, hoT6⟩ := h6
      have ff5 : ∀ g, For M5 g (fun _ => False) := fun g => ⟨fun _ z => z.elim, fun _ _ z => z.elim, fun _ z => z.elim⟩
      have hB6 := BTu.fr hB5 f6 (fun g _ => ff5 g)
      have hL6 := Lst.lb hL5 hoK5 f6 (ff5 12)
      refine r_as4 hC d_Bmeet_152 ?_
      exact meet_go hC (M := M2) hk (R := qR G) (ra := bR A) (xs := mtL G k u) (GF := gLs G k (mtL G k u)) (nn := 0) (by omega) (fun N A' hBN hFN => ⟨_, rfl, rfl, ⟨A', hBN⟩, hFN⟩) (mtL G k u) [] M6 A G _ _ _ _ rfl rfl rfl ⟨hB6.1, hF5.trans hB6.2 (BZ.old hF5), hL6.1, hL6.2.1⟩ hG (mtL_ok hG k u) rfl hI6 hoT6 (by omega) (by omega)
    · rw [ey]
      refine r_if_eq hC 21 d_Bmeet_13 (by decide) (fun _ => no (by unfold aMeet; rw [ex, ey])) (fun z => absurd rfl z)
  · rw [ex]
    refine r_if_eq hC 21 d_Bmeet_5 (by decide) (fun _ => no (by unfold aMeet; rw [ex])) (fun z => absurd rfl z)
