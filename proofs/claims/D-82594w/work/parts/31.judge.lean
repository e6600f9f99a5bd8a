theorem nI_m1 {c : Nat} (h : c < 2 ^ 30) : nI c - 1 < nI c := by
  rw [Int32.lt_iff_toInt_lt, show (1 : Int32) = nI 1 from rfl, pk_sub_toInt h (by omega), nI_toInt (by omega)]
  omega
theorem i_m1 (x : Int32) : x + Int32.ofInt (-1) = x - 1 := by rw [Int32.sub_eq_add_neg]; rfl
theorem ins_app (l1 l2 : List Nat) (x : Nat) : (l1 ++ l2).insertIdx l1.length x = l1 ++ x :: l2 := by
  induction l1 with
  | nil => simp
  | cons a l ih => simp only [List.cons_append, List.length_cons, List.insertIdx_succ_cons, ih]
theorem map_app (sa : Nat → Nat) (l1 l2 : List Nat) (x : Nat) : ((l1 ++ l2).map sa).insertIdx l1.length (sa x) = (l1 ++ x :: l2).map sa := by
  rw [ins_map, ins_app]
theorem c_Tjudge (l : Launch) (Θ : Glob) (M : Mem) (d : NdA) (R : Nat → RowT) (U : Nat → Bool) (sa ra : Nat → Nat) (cap : Nat) (p1 p2 : List Nat) (cp : Nat → Nat) (hX : NX M d R U sa ra cap (p1 ++ p2) (p1 ++ p2) cp) (j : Nat) (hk2 : nsOk R (p1 ++ j :: p2)) (hj : StS M (sa j) (ra j) j (R j) (U j)) (hoj : ow M (sa j) = nG d) (hnew : ∀ i ∈ p1 ++ p2, sa i ≠ sa j) (hl300 : (p1 ++ p2).length < 300) (hcap : cap < 1000) (hcap2 : gcap (p1 ++ p2).length cap < 1000) (hcap3 : (p1 ++ p2).length ≤ cap) (cpE : Nat → Nat) (hcpE : cpE = goL R U (rn R U tS0 p1) (j :: p2) (bkL R U (rn R U tS0 p1) p2 cp)) (mc ms : Nat) (hmc : gC (p1 ++ p2).length cap + (kC cp - kC cpE) ≤ mc) (hms : gS (p1 ++ p2).length cap + (kS cp - kS cpE) ≤ ms) : Ct l Θ y_Tjudge 16 mc ms [.ref (nT d), .int (nI p1.length), .ref (sa j)] M (pV fun N => NX N d R U sa ra (gcap (p1 ++ p2).length cap) (p1 ++ j :: p2) (p1 ++ j :: p2) cpE ∧ Fr (KZ M d sa (p1 ++ j :: p2)) M N ∧ fI N 134 (nT d) = fI M 134 (nT d) ∧ fI N 135 (nT d) = fI M 135 (nT d) ∧ fI N 136 (nT d) = nI (p2.length + 1)) := by
  have hk : nsOk R (p1 ++ p2) := hk2.sub (List.Sublist.append (List.Sublist.refl p1) (List.sublist_cons_self j p2))
  have hlen0 : p1.length + p2.length < 300 := by rw [List.length_append] at hl300; exact hl300
  have mB := bkL_mono R U (rn R U tS0 p1) p2 cp
  have mE := goL_mono R U (rn R U tS0 p1) (j :: p2) (bkL R U (rn R U tS0 p1) p2 cp)
  rw [← hcpE] at mE
  have hgt : (p1 ++ p2).length < gcap (p1 ++ p2).length cap := by
    unfold gcap
    split
    · assumption
    · have := ncap_gt cap; omega
  refine Ct.start (cc := b_Tjudge) (nL := 4) (ret := none) [some (.ref (nT d)), some (.int (nI p1.length)), some (.ref (sa j)), none] mi_Tjudge.1 (by decide +kernel) (by intro v hv; simp at hv; rcases hv with rfl | rfl | rfl <;> rfl) (by simp) rfl (fun p e s m args below meth c hC => ?_)
  have cont2 : ∀ M1 : Mem, NX M1 d R U sa ra (gcap (p1 ++ p2).length cap) (p1 ++ j :: p2) (p1 ++ j :: p2) cpE → Fr (KZ M d sa (p1 ++ j :: p2)) M M1 → fI M1 134 (nT d) = fI M 134 (nT d) ∧ fI M1 135 (nT d) = fI M 135 (nT d) → fI M1 193 (nL d) = nI (p1 ++ j :: p2).length → Gj p l e (rmo 16 mc ms) s m args below meth c Θ M1 [some (.ref (nT d)), some (.int (nI p1.length)), some (.ref (sa j)), some (.int (nI (p1 ++ j :: p2).length))] ((kC cp + gC (p1 ++ p2).length cap) - kC cpE + 0) ((kS cp + gS (p1 ++ p2).length cap) - kS cpE + 0) (Fn below args s Θ mc ms (pV fun N => NX N d R U sa ra (gcap (p1 ++ p2).length cap) (p1 ++ j :: p2) (p1 ++ j :: p2) cpE ∧ Fr (KZ M d sa (p1 ++ j :: p2)) M N ∧ fI N 134 (nT d) = fI M 134 (nT d) ∧ fI N 135 (nT d) = fI M 135 (nT d) ∧ fI N 136 (nT d) = nI (p2.length + 1))) 83 [] := by
    intro M1 hX1 hF1 hTm hsz
    have hT := hX1.1.1
    have hLs := hX1.1.2.1
    refine r_aload_n hC 0 d_Tjudge_83 rfl rfl ?_
    refine r_aload_n hC 0 d_Tjudge_84 rfl rfl ?_
    refine r_getS hC 4 3 131 fl_T27 (by exact hT.1) d_Tjudge_85 rfl rfl (by exact hT.2.2.2.1) ?_
    refine r_cVi hC [] rfl (c_Asize l Θ M1 (nL d) hLs.1) mi_Asize lk_T118 in_Asize (ci := 6) rfl rfl (by exact hLs.1) rfl (Nat.le_of_ble_eq_true rfl) ⟨Nat.le_of_ble_eq_true rfl, Nat.le_of_ble_eq_true rfl⟩ ⟨by show _ + 0 ≤ mc; omega, by show _ + 0 ≤ ms; omega⟩ d_Tjudge_88 (fun r M2 h2 => ?_)
    obtain ⟨rfl, rfl⟩ := h2
    rw [hsz]
    refine r_iload_n hC 1 d_Tjudge_91 rfl rfl ?_
    refine r_isub hC (nI (p2.length + 1)) d_Tjudge_92 (by rw [pk_sub (by simp), List.length_append, List.length_cons, Nat.add_sub_cancel_left]) ?_
    refine r_putI hC 4 8 136 fl_T165 rfl (by exact hT.1) d_Tjudge_93 rfl rfl rfl rfl ?_
    have f3 := sI_fr M2 136 (nT d) (nI (p2.length + 1))
    refine r_vret hC d_Tjudge_96 (by omega) (by omega) ⟨rfl, hX1.fr f3 hT (fun b _ hb z => ?_) (fun b a hb _ _ z => ?_) (fun b hb z => ?_) (fun i hi => hi), hF1.trans f3 (fun b _ z => Or.inr (Or.inl z)), hTm.1, hTm.2, up2_self _ _ _ _⟩
    · have z : b = nT d := z
      have := hT.1
      rw [z] at hb; omega
    · have z : b = nT d := z
      have := hT.1
      rw [z] at hb; omega
    · have z : b = nT d := z
      have := hT.1
      rw [z] at hb; omega
  have go : ∀ (l2 l1 : List Nat) (M1 : Mem) (cx : Nat → Nat), p1 ++ j :: p2 = l1 ++ l2 → NX M1 d R U sa ra (gcap (p1 ++ p2).length cap) (l1 ++ l2) l1 cx → Fr (KZ M d sa (p1 ++ j :: p2)) M M1 → fI M1 134 (nT d) = fI M 134 (nT d) ∧ fI M1 135 (nT d) = fI M 135 (nT d) → kC cx ≤ (kC cp + gC (p1 ++ p2).length cap) → kS cx ≤ (kS cp + gS (p1 ++ p2).length cap) → goL R U (rn R U tS0 l1) l2 cx = cpE → Gj p l e (rmo 16 mc ms) s m args below meth c Θ M1 [some (.ref (nT d)), some (.int (nI p1.length)), some (.ref (sa j)), some (.int (nI l1.length))] ((kC cp + gC (p1 ++ p2).length cap) - kC cx) ((kS cp + gS (p1 ++ p2).length cap) - kS cx) (Fn below args s Θ mc ms (pV fun N => NX N d R U sa ra (gcap (p1 ++ p2).length cap) (p1 ++ j :: p2) (p1 ++ j :: p2) cpE ∧ Fr (KZ M d sa (p1 ++ j :: p2)) M N ∧ fI N 134 (nT d) = fI M 134 (nT d) ∧ fI N 135 (nT d) = fI M 135 (nT d) ∧ fI N 136 (nT d) = nI (p2.length + 1))) 51 [] := by
    intro l2
    induction l2 with
    | nil =>
      intro l1 M1 cx hns hX hF hTm hA hB hE
      have hE : cx = cpE := hE
      subst hE
      have hT := hX.1.1
      have hLs := hX.1.2.1
      have hsz := hLs.len
      have hlen := hX.1.2.2.2.2.2
      rw [List.append_nil] at hns hX hLs hsz hlen
      rw [List.length_map] at hsz
      refine r_iload_n hC 3 d_Tjudge_51 rfl rfl ?_
      refine r_aload_n hC 0 d_Tjudge_52 rfl rfl ?_
      refine r_getS hC 4 3 131 fl_T27 (by exact hT.1) d_Tjudge_53 rfl rfl (by exact hT.2.2.2.1) ?_
      refine r_cVi hC [] rfl (c_Asize l Θ M1 (nL d) hLs.1) mi_Asize lk_T118 in_Asize (ci := 6) rfl rfl (by exact hLs.1) rfl (Nat.le_of_ble_eq_true rfl) ⟨Nat.le_of_ble_eq_true rfl, Nat.le_of_ble_eq_true rfl⟩ ⟨by show _ + 0 ≤ mc; omega, by show _ + 0 ≤ ms; omega⟩ d_Tjudge_56 (fun r M2 h2 => ?_)
      obtain ⟨rfl, rfl⟩ := h2
      rw [hsz]
      refine r_icmp_ge hC 83 d_Tjudge_59 (by decide) (fun _ => ?_) (fun z => ?_)
      · rw [← hns] at hX hsz ⊢
        exact cont2 M2 hX hF hTm hsz
      · exact absurd (nI_le (Nat.le_refl _) (by omega)) z
    | cons i l2 ih =>
      intro l1 M1 cx hns hX hF hTm hA hB hE
      have hk1 := hk2
      rw [hns] at hk1
      have hT := hX.1.1
      have hLs := hX.1.2.1
      have hsz := hLs.len
      have hlen := hX.1.2.2.2.2.2
      rw [List.length_map] at hsz
      have hl1 : l1.length < (l1 ++ i :: l2).length := by simp
      have hW1 : WF (rn R U tS0 l1) := WF.rn hk1.pre
      have hok := okR_of (U := U) hk1
      have hmem : i ∈ l1 ++ i :: l2 := by simp
      have hst := hX.1.2.2.1 i hmem
      have hgi : (l1 ++ i :: l2)[l1.length]? = some i := by simp
      have m1 := cpGo_mono (U i) (rn R U tS0 l1) cx (R i)
      have m2 := goL_mono R U (rn R U tS0 (l1 ++ [i])) l2 (cpGo (U i) (rn R U tS0 l1) cx (R i))
      have hE2 : goL R U (rn R U tS0 (l1 ++ [i])) l2 (cpGo (U i) (rn R U tS0 l1) cx (R i)) = cpE := by rw [rn_snoc]; exact hE
      rw [hE2] at m2
      have ih2 := ih (l1 ++ [i])
      have eapp : l1 ++ [i] ++ l2 = l1 ++ i :: l2 := by simp
      rw [eapp] at ih2
      refine r_iload_n hC 3 d_Tjudge_51 rfl rfl ?_
      refine r_aload_n hC 0 d_Tjudge_52 rfl rfl ?_
      refine r_getS hC 4 3 131 fl_T27 (by exact hT.1) d_Tjudge_53 rfl rfl (by exact hT.2.2.2.1) ?_
      refine r_cVi hC [] rfl (c_Asize l Θ M1 (nL d) hLs.1) mi_Asize lk_T118 in_Asize (ci := 6) rfl rfl (by exact hLs.1) rfl (Nat.le_of_ble_eq_true rfl) ⟨Nat.le_of_ble_eq_true rfl, Nat.le_of_ble_eq_true rfl⟩ ⟨by show _ + 0 ≤ mc; omega, by show _ + 0 ≤ ms; omega⟩ d_Tjudge_56 (fun r M2 h2 => ?_)
      obtain ⟨rfl, rfl⟩ := h2
      rw [hsz]
      refine r_icmp_ge hC 83 d_Tjudge_59 (by decide) (fun z => ?_) (fun _ => ?_)
      · exact absurd z (nI_ge hl1 (by omega))
      · skip
        refine r_aload_n hC 0 d_Tjudge_62 rfl rfl ?_
        refine r_aload_n hC 0 d_Tjudge_63 rfl rfl ?_
        refine r_getS hC 4 3 131 fl_T27 (by exact hT.1) d_Tjudge_64 rfl rfl (by exact hT.2.2.2.1) ?_
        refine r_iload_n hC 3 d_Tjudge_67 rfl rfl ?_
        refine r_cVr hC [.int (nI l1.length)] rfl (c_Aget l Θ M2 (nL d) l1.length _ _ hLs (by simp)) mi_Aget lk_T151 in_Aget (ci := 6) rfl rfl (by exact hLs.1) rfl (Nat.le_of_ble_eq_true rfl) ⟨Nat.le_of_ble_eq_true rfl, Nat.le_of_ble_eq_true rfl⟩ ⟨by show _ + 0 ≤ mc; omega, by show _ + 0 ≤ ms; omega⟩ d_Tjudge_68 (fun r M3 h3 => ?_)
        obtain ⟨rfl, rfl⟩ := h3
        rw [map_get hgi]
        refine r_cast hC 3 rfl hst.1 cl_T31 ca_SS d_Tjudge_71 ?_
        have con := c_Tgo l Θ M3 (nA d) (nC d) _ cx hX.2.1 hW1 hX.2.2.1 (nT d) (nP d) (nL d) (nK d) (nU d) hT (sa i) (ra i) i (R i) (U i) hst.1 hst.2.1 hst.2.2.1 hst.2.2.2 (hk1.2.1 i hmem) hok.2.2
        refine r_cVv hC [.ref (sa i)] rfl (con) mi_Tgo lk_T162 in_Tgo (ci := 4) rfl rfl (by exact hT.1) rfl (Nat.le_of_ble_eq_true rfl) ⟨Nat.le_of_ble_eq_true rfl, Nat.le_of_ble_eq_true rfl⟩ ⟨by show _ + (kC cx - _) ≤ mc; omega, by show _ + (kS cx - _) ≤ ms; omega⟩ d_Tjudge_74 (fun M4 h4 => ?_)
        obtain ⟨hP4, f4, st4, sk4⟩ := h4
        have hX4 := hX.go hk1 hP4 f4 st4 sk4
        have hTn : ¬ JZ M3 d sa (l1 ++ i :: l2) (nT d) := fun z => by
          rcases z with z | ⟨x, hx, z⟩
          · exact PZ.not hX.2.1 hT.1 (by omega) z
          · have e1 := hT.1
            have e2 := (hX.1.2.2.1 x hx).1
            rw [z] at e1; omega
        have q4 := hX4.2.2 (nT d) (by have := hT.1; omega) hTn
        refine r_ii3 hC (nI (l1 ++ [i]).length) d_Tjudge_77 (by rw [List.length_append]; exact nI_1 _) ?_
        refine r_goto hC 51 d_Tjudge_80 (by decide) ?_
        rw [show (kC cp + gC (p1 ++ p2).length cap) - kC cx + 0 + 0 + (kC cx - kC (cpGo (U i) (rn R U tS0 l1) cx (R i))) = (kC cp + gC (p1 ++ p2).length cap) - kC (cpGo (U i) (rn R U tS0 l1) cx (R i)) by omega, show (kS cp + gS (p1 ++ p2).length cap) - kS cx + 0 + 0 + (kS cx - kS (cpGo (U i) (rn R U tS0 l1) cx (R i))) = (kS cp + gS (p1 ++ p2).length cap) - kS (cpGo (U i) (rn R U tS0 l1) cx (R i)) by omega]
        exact ih2 M4 _ hns hX4.1 (hF.trans hX4.2 (fun b hb z => KZ.old hF b hb (Or.inl (by rw [hns]; exact z)))) ⟨(q4.2.1 134).trans hTm.1, (q4.2.1 135).trans hTm.2⟩ (by omega) (by omega) hE2
  have cont : ∀ M1 : Mem, NX M1 d R U sa ra cap (p1 ++ p2) p1 (bkL R U (rn R U tS0 p1) p2 cp) → Fr (PZ M (nA d) (nC d)) M M1 → Gj p l e (rmo 16 mc ms) s m args below meth c Θ M1 [some (.ref (nT d)), some (.int (nI p1.length)), some (.ref (sa j)), some (.int (nI p1.length - 1))] (kC cp - kC (bkL R U (rn R U tS0 p1) p2 cp)) (kS cp - kS (bkL R U (rn R U tS0 p1) p2 cp)) (Fn below args s Θ mc ms (pV fun N => NX N d R U sa ra (gcap (p1 ++ p2).length cap) (p1 ++ j :: p2) (p1 ++ j :: p2) cpE ∧ Fr (KZ M d sa (p1 ++ j :: p2)) M N ∧ fI N 134 (nT d) = fI M 134 (nT d) ∧ fI N 135 (nT d) = fI M 135 (nT d) ∧ fI N 136 (nT d) = nI (p2.length + 1))) 36 [] := by
    intro M1 hX1 hF1
    have hT := hX1.1.1
    have hLs := hX1.1.2.1
    have hT0 := hX.1.1
    have hTn : ¬ PZ M (nA d) (nC d) (nT d) := PZ.not hX.2.1 hT0.1 (by omega)
    have q1 := hF1.2 (nT d) (by have := hT0.1; omega) hTn
    have hj1 : StS M1 (sa j) (ra j) j (R j) (U j) := hj.fr hF1 (PZ.not hX.2.1 hj.1 (by omega)) (PZ.not hX.2.1 hj.2.2.2.1 (by omega))
    have hoj1 : ow M1 (sa j) = nG d := (hF1.1 _ (by have := hj.1; omega)).2.trans hoj
    refine r_aload_n hC 2 d_Tjudge_36 rfl rfl ?_
    refine r_ifnull hC (r := some (sa j)) 49 d_Tjudge_37 (by decide) (fun z => by cases z) (fun _ _ => ?_)
    refine r_aload_n hC 0 d_Tjudge_40 rfl rfl ?_
    refine r_getS hC 4 3 131 fl_T27 (by exact hT.1) d_Tjudge_41 rfl rfl (by exact hT.2.2.2.1) ?_
    refine r_iload_n hC 1 d_Tjudge_44 rfl rfl ?_
    refine r_aload_n hC 2 d_Tjudge_45 rfl rfl ?_
    have con := c_Aadd2 l Θ M1 (nL d) p1.length (sa j) cap ((p1 ++ p2).map sa) hLs (by simp) ⟨3, hj1.1, as_23⟩ hX1.1.okk (by omega)
    rw [List.length_map] at con
    refine r_cVv hC [.int (nI p1.length), .ref (sa j)] rfl (con) mi_Aadd2 lk_T81 in_Aadd2 (ci := 6) rfl rfl (by exact hLs.1) rfl (Nat.le_of_ble_eq_true rfl) ⟨Nat.le_of_ble_eq_true rfl, Nat.le_of_ble_eq_true rfl⟩ ⟨by show _ + gC (p1 ++ p2).length cap ≤ mc; omega, by show _ + gS (p1 ++ p2).length cap ≤ ms; omega⟩ d_Tjudge_46 (fun M2 h2 => ?_)
    obtain ⟨q, g, hq, hg, hM2⟩ := h2
    have hX2 := hX1.ins hj1 hoj1 hnew hl300 (by omega) hq hgt (fun i hi => by rw [hg i hi, map_app]) hM2
    have q2 := hX2.2.2 (nT d) (by have := hT.1; omega) (fun z => by
      have := hT.1
      have := hLs.1
      rcases z with z | z
      · rw [← z] at this; omega
      · omega)
    refine r_iload_n hC 1 d_Tjudge_49 rfl rfl ?_
    refine r_is3 hC d_Tjudge_50 ?_
    rw [show kC cp - kC (bkL R U (rn R U tS0 p1) p2 cp) + gC (p1 ++ p2).length cap = (kC cp + gC (p1 ++ p2).length cap) - kC (bkL R U (rn R U tS0 p1) p2 cp) by omega, show kS cp - kS (bkL R U (rn R U tS0 p1) p2 cp) + gS (p1 ++ p2).length cap = (kS cp + gS (p1 ++ p2).length cap) - kS (bkL R U (rn R U tS0 p1) p2 cp) by omega]
    refine go (j :: p2) p1 M2 _ rfl hX2.1 ((hF1.mono (fun _ _ z => Or.inl (Or.inl z))).trans hX2.2 (fun b hb z => ?_)) ⟨(q2.2.1 134).trans (q1.2.1 134), (q2.2.1 135).trans (q1.2.1 135)⟩ (by omega) (by omega) hcpE.symm
    rcases z with z | z
    · exact Or.inr (Or.inr (Or.inl z))
    · rw [(hF1.1 b hb).1] at z
      exact Or.inr (Or.inr (Or.inr z))
  have back : ∀ (n : Nat) (l1 l2 : List Nat) (M1 : Mem), l1.length = n → p2 = l1 ++ l2 → NX M1 d R U sa ra cap (p1 ++ p2) (p1 ++ l1) (bkL R U (rn R U tS0 (p1 ++ l1)) l2 cp) → Fr (PZ M (nA d) (nC d)) M M1 → Gj p l e (rmo 16 mc ms) s m args below meth c Θ M1 [some (.ref (nT d)), some (.int (nI p1.length)), some (.ref (sa j)), some (.int (nI (p1.length + l1.length) - 1))] (kC cp - kC (bkL R U (rn R U tS0 (p1 ++ l1)) l2 cp)) (kS cp - kS (bkL R U (rn R U tS0 (p1 ++ l1)) l2 cp)) (Fn below args s Θ mc ms (pV fun N => NX N d R U sa ra (gcap (p1 ++ p2).length cap) (p1 ++ j :: p2) (p1 ++ j :: p2) cpE ∧ Fr (KZ M d sa (p1 ++ j :: p2)) M N ∧ fI N 134 (nT d) = fI M 134 (nT d) ∧ fI N 135 (nT d) = fI M 135 (nT d) ∧ fI N 136 (nT d) = nI (p2.length + 1))) 10 [] := by
    intro n
    induction n with
    | zero =>
      intro l1 l2 M1 hn hp2 hX hF
      have : l1 = [] := List.eq_nil_of_length_eq_zero hn
      subst this
      have hp2 : p2 = l2 := hp2
      subst hp2
      rw [List.append_nil] at hX ⊢
      rw [show p1.length + ([] : List Nat).length = p1.length from rfl]
      refine r_iload_n hC 3 d_Tjudge_10 rfl rfl ?_
      refine r_iload_n hC 1 d_Tjudge_11 rfl rfl ?_
      refine r_icmp_lt hC 36 d_Tjudge_12 (by decide) (fun _ => ?_) (fun z => ?_)
      · exact cont M1 hX hF
      · exact absurd (nI_m1 (by omega)) z
    | succ n ih =>
      intro l1 l2 M1 hn hp2 hX hF
      obtain ⟨l1, i, rfl⟩ : ∃ (l : List Nat) (i : Nat), l1 = l ++ [i] := by
        rcases List.eq_nil_or_concat l1 with z | ⟨l, i, z⟩
        · rw [z] at hn; cases hn
        · exact ⟨l, i, by rw [z, List.concat_eq_append]⟩
      have hn1 : l1.length = n := by simpa using hn
      have hns : p1 ++ p2 = (p1 ++ l1) ++ i :: l2 := by rw [hp2]; simp
      have hk1 := hk
      rw [hns] at hX hk1
      rw [← List.append_assoc] at hX ⊢
      have hlen : (p1 ++ l1 ++ i :: l2).length ≤ 300 := hX.1.2.2.2.2.2
      have hl2 : p1.length + l1.length < 300 := by simp at hlen; omega
      rw [show nI (p1.length + (l1 ++ [i]).length) - 1 = nI (p1 ++ l1).length by rw [List.length_append (as := l1), List.length_append]; exact nI_pred _]
      have hW1 : WF (rn R U tS0 (p1 ++ l1)) := WF.rn hk1.pre
      have hok := okR_of (U := U) hk1
      have hW2 := hW1.gr (u := U i) hok
      have hXP := hX.2.1
      rw [rn_snoc] at hXP hX ⊢
      have hX0 := hX
      have hmem : i ∈ p1 ++ l1 ++ i :: l2 := by simp
      have hst := hX.1.2.2.1 i hmem
      have hsd := hX.2.2.2.1 (p1 ++ l1) i [] rfl
      have hT := hX.1.1
      have hLs := hX.1.2.1
      have hgi : (p1 ++ l1 ++ i :: l2)[(p1 ++ l1).length]? = some i := by simp
      have m1 := cpBk_mono (gR (U i) (rn R U tS0 (p1 ++ l1)) (R i)).2 (gR (U i) (rn R U tS0 (p1 ++ l1)) (R i)).1 (bkL R U (gR (U i) (rn R U tS0 (p1 ++ l1)) (R i)).1 l2 cp) (rO (R i)) (pr (rn R U tS0 (p1 ++ l1)) (rO (R i)))
      have m2 := bkL_mono R U (gR (U i) (rn R U tS0 (p1 ++ l1)) (R i)).1 l2 cp
      have m3 := bkL_mono R U (rn R U tS0 p1) l1 (bkL R U (rn R U tS0 (p1 ++ l1)) (i :: l2) cp)
      have m4 : bkL R U (rn R U tS0 p1) p2 cp = bkL R U (rn R U tS0 p1) l1 (bkL R U (rn R U tS0 (p1 ++ l1)) (i :: l2) cp) := by rw [hp2, List.append_assoc, bkL_app, ← rn_app]; rfl
      rw [← m4] at m3
      have m5 : bkL R U (rn R U tS0 (p1 ++ l1)) (i :: l2) cp = cpBk (gR (U i) (rn R U tS0 (p1 ++ l1)) (R i)).2 (gR (U i) (rn R U tS0 (p1 ++ l1)) (R i)).1 (bkL R U (gR (U i) (rn R U tS0 (p1 ++ l1)) (R i)).1 l2 cp) (rO (R i)) (pr (rn R U tS0 (p1 ++ l1)) (rO (R i))) := rfl
      rw [m5] at m3
      have ih2 := ih l1 (i :: l2)
      rw [m5] at ih2
      generalize hcx : bkL R U (gR (U i) (rn R U tS0 (p1 ++ l1)) (R i)).1 l2 cp = cx at *
      generalize hcy : cpBk (gR (U i) (rn R U tS0 (p1 ++ l1)) (R i)).2 (gR (U i) (rn R U tS0 (p1 ++ l1)) (R i)).1 cx (rO (R i)) (pr (rn R U tS0 (p1 ++ l1)) (rO (R i))) = cy at *
      refine r_iload_n hC 3 d_Tjudge_10 rfl rfl ?_
      refine r_iload_n hC 1 d_Tjudge_11 rfl rfl ?_
      refine r_icmp_lt hC 36 d_Tjudge_12 (by decide) (fun z => ?_) (fun _ => ?_)
      · exact absurd z (nI_nlt (by simp) (by simp; omega))
      · skip
        refine r_aload_n hC 0 d_Tjudge_15 rfl rfl ?_
        refine r_aload_n hC 0 d_Tjudge_16 rfl rfl ?_
        refine r_getS hC 4 3 131 fl_T27 (by exact hT.1) d_Tjudge_17 rfl rfl (by exact hT.2.2.2.1) ?_
        refine r_iload_n hC 3 d_Tjudge_20 rfl rfl ?_
        refine r_cVr hC [.int (nI (p1 ++ l1).length)] rfl (c_Aget l Θ M1 (nL d) (p1 ++ l1).length _ _ hLs (by simp)) mi_Aget lk_T151 in_Aget (ci := 6) rfl rfl (by exact hLs.1) rfl (Nat.le_of_ble_eq_true rfl) ⟨Nat.le_of_ble_eq_true rfl, Nat.le_of_ble_eq_true rfl⟩ ⟨by show _ + 0 ≤ mc; omega, by show _ + 0 ≤ ms; omega⟩ d_Tjudge_21 (fun r M2 h2 => ?_)
        obtain ⟨rfl, rfl⟩ := h2
        rw [map_get hgi]
        refine r_cast hC 3 rfl hst.1 cl_T31 ca_SS d_Tjudge_24 ?_
        have con := c_Tback l Θ M2 (nA d) (nC d) _ cx hXP hW2 hX.2.2.1 (nT d) hT.1 (sa i) (gR (U i) (rn R U tS0 (p1 ++ l1)) (R i)).2 (rO (R i)) (pr (rn R U tS0 (p1 ++ l1)) (rO (R i))) (las (rn R U tS0 (p1 ++ l1)) (rO (R i))) (atK (rn R U tS0 (p1 ++ l1)) (rO (R i))) hok.1 hok.2.1 (fun ha x hx => at_ok hW1 hok ha hx) hst.1 hsd.2.1 hsd.2.2
        rw [hcy] at con
        refine r_cVv hC [.ref (sa i)] rfl (con) mi_Tback lk_T158 in_Tback (ci := 4) rfl rfl (by exact hT.1) rfl (Nat.le_of_ble_eq_true rfl) ⟨Nat.le_of_ble_eq_true rfl, Nat.le_of_ble_eq_true rfl⟩ ⟨by show _ + (kC cx - kC cy) ≤ mc; omega, by show _ + (kS cx - kS cy) ≤ ms; omega⟩ d_Tjudge_27 (fun M3 h3 => ?_)
        obtain ⟨hP3, f3⟩ := h3
        have hX3 := hX0.back hk1 (by rw [hcy]; exact hP3) f3
        rw [hcy] at hX3
        refine r_ii3 hC (nI (p1.length + l1.length) - 1) d_Tjudge_30 (by rw [List.length_append]; exact i_m1 _) ?_
        refine r_goto hC 10 d_Tjudge_33 (by decide) ?_
        rw [show kC cp - kC cx + 0 + (kC cx - kC cy) = kC cp - kC cy by omega, show kS cp - kS cx + 0 + (kS cx - kS cy) = kS cp - kS cy by omega]
        exact ih2 M3 hn1 (by rw [hp2]; simp) (by rw [hns]; exact hX3) (hF.trans f3 (PZ.old hF))
  have hT := hX.1.1
  have hLs := hX.1.2.1
  have hsz := hLs.len
  rw [List.length_map] at hsz
  refine r_aload_n hC 0 d_Tjudge_0 rfl rfl ?_
  refine r_getS hC 4 3 131 fl_T27 (by exact hT.1) d_Tjudge_1 rfl rfl (by exact hT.2.2.2.1) ?_
  refine r_cVi hC [] rfl (c_Asize l Θ M (nL d) hLs.1) mi_Asize lk_T118 in_Asize (ci := 6) rfl rfl (by exact hLs.1) rfl (Nat.le_of_ble_eq_true rfl) ⟨Nat.le_of_ble_eq_true rfl, Nat.le_of_ble_eq_true rfl⟩ ⟨Nat.zero_le _, Nat.zero_le _⟩ d_Tjudge_4 (fun r M2 h2 => ?_)
  obtain ⟨rfl, rfl⟩ := h2
  rw [hsz]
  refine r_iconst hC 1 d_Tjudge_7 (by decide) ?_
  refine r_isub hC _ d_Tjudge_8 rfl ?_
  refine r_is3 hC d_Tjudge_9 ?_
  have := back p2.length p2 [] M2 rfl (by simp) hX Fr.rf
  rw [show bkL R U (rn R U tS0 (p1 ++ p2)) [] cp = cp from rfl, Nat.sub_self, Nat.sub_self, ← List.length_append] at this
  exact this
