theorem learn_tail {l : Launch} {Θ : Glob} {p : Program} {e : Env} {s : State} {m : MethodId} {args : Array Value} {below : List Frame} {meth : Method} {c : Code} (hC : Cx p s m args meth c Θ y_Tlearn b_Tlearn 5 none) {post : Option Value → Mem → Prop} {M : Mem} {d : NdA} {R : Nat → RowT} {U V : Nat → Bool} {sa ra : Nat → Nat} {cap : Nat} {p1 p2 p3 : List Nat} {cp cpE : Nat → Nat} {t rj mc ms : Nat} (hX : NX M d R U sa ra cap (p1 ++ p2) (p1 ++ p2) cp) (hp3 : p2 = t :: p3) (hk : nsOk R (p1 ++ p2)) (hV : V = va_up U t true) (hcpE : cpE = goL R V (rn R V tS0 p1) p2 (bkL R U (rn R U tS0 p1) p2 cp)) (hmc : 1 + (kC cp - kC cpE) ≤ mc) (hms : 7 + (kS cp - kS cpE) ≤ ms)
    (fin : ∀ N : Mem, NX N d R V sa ra cap (p1 ++ p2) (p1 ++ p2) cpE → Fr (KZ M d sa (p1 ++ p2)) M N → fI N 134 (nT d) = fI M 134 (nT d) → fI N 135 (nT d) = fI M 135 (nT d) → fI N 136 (nT d) = nI p2.length → post none N) : Gj p l e (rmo 17 mc ms) s m args below meth c Θ M [some (.ref (nT d)), some (.ref rj), some (.ref (sa t)), none, none] 1 7 (Fn below args s Θ mc ms post) 80 [] := by
  have hlen0 : (p1 ++ p2).length ≤ 300 := hX.1.2.2.2.2.2
  have hlen1 : p1.length + p2.length ≤ 300 := by rw [List.length_append] at hlen0; exact hlen0
  have hk2 := hk
  have htm : t ∈ p1 ++ p2 := by rw [hp3]; simp
  have hnd := hk.1
  have mB := bkL_mono R U (rn R U tS0 p1) p2 cp
  have mE := goL_mono R V (rn R V tS0 p1) p2 (bkL R U (rn R U tS0 p1) p2 cp)
  rw [← hcpE] at mE
  have cont2 : ∀ M1 : Mem, NX M1 d R V sa ra cap (p1 ++ p2) (p1 ++ p2) cpE → Fr (KZ M d sa (p1 ++ p2)) M M1 → fI M1 134 (nT d) = fI M 134 (nT d) ∧ fI M1 135 (nT d) = fI M 135 (nT d) → fI M1 193 (nL d) = nI (p1 ++ p2).length → Gj p l e (rmo 17 mc ms) s m args below meth c Θ M1 [some (.ref (nT d)), some (.ref rj), some (.ref (sa t)), some (.int (nI p1.length)), some (.int (nI (p1 ++ p2).length))] ((kC cp + 1) - kC cpE + 0) ((kS cp + 7) - kS cpE + 0) (Fn below args s Θ mc ms post) 181 [] := by
    intro M1 hX1 hF1 hTm hsz
    have hT := hX1.1.1
    have hLs := hX1.1.2.1
    refine r_aload_n hC 0 d_Tlearn_181 rfl rfl ?_
    refine r_aload_n hC 0 d_Tlearn_182 rfl rfl ?_
    refine r_getS hC 4 3 131 fl_T27 (by exact hT.1) d_Tlearn_183 rfl rfl (by exact hT.2.2.2.1) ?_
    refine r_cVi hC [] rfl (c_Asize l Θ M1 (nL d) hLs.1) mi_Asize lk_T118 in_Asize (ci := 6) rfl rfl (by exact hLs.1) rfl (Nat.le_of_ble_eq_true rfl) ⟨Nat.le_of_ble_eq_true rfl, Nat.le_of_ble_eq_true rfl⟩ ⟨by show _ + 0 ≤ mc; omega, by show _ + 0 ≤ ms; omega⟩ d_Tlearn_186 (fun r M2 h2 => ?_)
    obtain ⟨rfl, rfl⟩ := h2
    rw [hsz]
    refine r_iload_n hC 3 d_Tlearn_189 rfl rfl ?_
    refine r_isub hC (nI p2.length) d_Tlearn_190 (by rw [pk_sub (by simp), List.length_append, Nat.add_sub_cancel_left]) ?_
    refine r_putI hC 4 8 136 fl_T165 rfl (by exact hT.1) d_Tlearn_191 rfl rfl rfl rfl ?_
    have f3 := sI_fr M2 136 (nT d) (nI p2.length)
    refine r_vret hC d_Tlearn_194 (by omega) (by omega) (fin _ (hX1.fr f3 hT (fun b _ hb z => ?_) (fun b a hb _ _ z => ?_) (fun b hb z => ?_) (fun i hi => hi)) (hF1.trans f3 (fun b _ z => Or.inr (Or.inl z))) hTm.1 hTm.2 (up2_self _ _ _ _))
    · have z : b = nT d := z
      have := hT.1
      rw [z] at hb; omega
    · have z : b = nT d := z
      have := hT.1
      rw [z] at hb; omega
    · have z : b = nT d := z
      have := hT.1
      rw [z] at hb; omega
  have go : ∀ (l2 l1 : List Nat) (M1 : Mem) (cx : Nat → Nat), p1 ++ p2 = l1 ++ l2 → NX M1 d R V sa ra cap (l1 ++ l2) l1 cx → Fr (KZ M d sa (p1 ++ p2)) M M1 → fI M1 134 (nT d) = fI M 134 (nT d) ∧ fI M1 135 (nT d) = fI M 135 (nT d) → kC cx ≤ (kC cp + 1) → kS cx ≤ (kS cp + 7) → goL R V (rn R V tS0 l1) l2 cx = cpE → Gj p l e (rmo 17 mc ms) s m args below meth c Θ M1 [some (.ref (nT d)), some (.ref rj), some (.ref (sa t)), some (.int (nI p1.length)), some (.int (nI l1.length))] ((kC cp + 1) - kC cx) ((kS cp + 7) - kS cx) (Fn below args s Θ mc ms post) 147 [] := by
    intro l2
    induction l2 with
    | nil =>
      intro l1 M1 cx hns hX hF hTm hA hB hE
      have hE : cx = cpE := hE
      subst hE
      have hT := hX.1.1
      have hLs := hX.1.2.1
      have hsz := hLs.len
      have hlen := hX.1.2.2.2.2.2
      rw [List.append_nil] at hns hX hLs hsz hlen
      rw [List.length_map] at hsz
      refine r_iload hC 4 d_Tlearn_147 rfl ?_
      refine r_aload_n hC 0 d_Tlearn_149 rfl rfl ?_
      refine r_getS hC 4 3 131 fl_T27 (by exact hT.1) d_Tlearn_150 rfl rfl (by exact hT.2.2.2.1) ?_
      refine r_cVi hC [] rfl (c_Asize l Θ M1 (nL d) hLs.1) mi_Asize lk_T118 in_Asize (ci := 6) rfl rfl (by exact hLs.1) rfl (Nat.le_of_ble_eq_true rfl) ⟨Nat.le_of_ble_eq_true rfl, Nat.le_of_ble_eq_true rfl⟩ ⟨by show _ + 0 ≤ mc; omega, by show _ + 0 ≤ ms; omega⟩ d_Tlearn_153 (fun r M2 h2 => ?_)
      obtain ⟨rfl, rfl⟩ := h2
      rw [hsz]
      refine r_icmp_ge hC 181 d_Tlearn_156 (by decide) (fun _ => ?_) (fun z => ?_)
      · rw [← hns] at hX hsz ⊢
        exact cont2 M2 hX hF hTm hsz
      · exact absurd (nI_le (Nat.le_refl _) (by omega)) z
    | cons i l2 ih =>
      intro l1 M1 cx hns hX hF hTm hA hB hE
      have hk1 := hk2
      rw [hns] at hk1
      have hT := hX.1.1
      have hLs := hX.1.2.1
      have hsz := hLs.len
      have hlen := hX.1.2.2.2.2.2
      rw [List.length_map] at hsz
      have hl1 : l1.length < (l1 ++ i :: l2).length := by simp
      have hW1 : WF (rn R V tS0 l1) := WF.rn hk1.pre
      have hok := okR_of (U := V) hk1
      have hmem : i ∈ l1 ++ i :: l2 := by simp
      have hst := hX.1.2.2.1 i hmem
      have hgi : (l1 ++ i :: l2)[l1.length]? = some i := by simp
      have m1 := cpGo_mono (V i) (rn R V tS0 l1) cx (R i)
      have m2 := goL_mono R V (rn R V tS0 (l1 ++ [i])) l2 (cpGo (V i) (rn R V tS0 l1) cx (R i))
      have hE2 : goL R V (rn R V tS0 (l1 ++ [i])) l2 (cpGo (V i) (rn R V tS0 l1) cx (R i)) = cpE := by rw [rn_snoc]; exact hE
      rw [hE2] at m2
      have ih2 := ih (l1 ++ [i])
      have eapp : l1 ++ [i] ++ l2 = l1 ++ i :: l2 := by simp
      rw [eapp] at ih2
      refine r_iload hC 4 d_Tlearn_147 rfl ?_
      refine r_aload_n hC 0 d_Tlearn_149 rfl rfl ?_
      refine r_getS hC 4 3 131 fl_T27 (by exact hT.1) d_Tlearn_150 rfl rfl (by exact hT.2.2.2.1) ?_
      refine r_cVi hC [] rfl (c_Asize l Θ M1 (nL d) hLs.1) mi_Asize lk_T118 in_Asize (ci := 6) rfl rfl (by exact hLs.1) rfl (Nat.le_of_ble_eq_true rfl) ⟨Nat.le_of_ble_eq_true rfl, Nat.le_of_ble_eq_true rfl⟩ ⟨by show _ + 0 ≤ mc; omega, by show _ + 0 ≤ ms; omega⟩ d_Tlearn_153 (fun r M2 h2 => ?_)
      obtain ⟨rfl, rfl⟩ := h2
      rw [hsz]
      refine r_icmp_ge hC 181 d_Tlearn_156 (by decide) (fun z => ?_) (fun _ => ?_)
      · exact absurd z (nI_ge hl1 (by omega))
      · skip
        refine r_aload_n hC 0 d_Tlearn_159 rfl rfl ?_
        refine r_aload_n hC 0 d_Tlearn_160 rfl rfl ?_
        refine r_getS hC 4 3 131 fl_T27 (by exact hT.1) d_Tlearn_161 rfl rfl (by exact hT.2.2.2.1) ?_
        refine r_iload hC 4 d_Tlearn_164 rfl ?_
        refine r_cVr hC [.int (nI l1.length)] rfl (c_Aget l Θ M2 (nL d) l1.length _ _ hLs (by simp)) mi_Aget lk_T151 in_Aget (ci := 6) rfl rfl (by exact hLs.1) rfl (Nat.le_of_ble_eq_true rfl) ⟨Nat.le_of_ble_eq_true rfl, Nat.le_of_ble_eq_true rfl⟩ ⟨by show _ + 0 ≤ mc; omega, by show _ + 0 ≤ ms; omega⟩ d_Tlearn_166 (fun r M3 h3 => ?_)
        obtain ⟨rfl, rfl⟩ := h3
        rw [map_get hgi]
        refine r_cast hC 3 rfl hst.1 cl_T31 ca_SS d_Tlearn_169 ?_
        have con := c_Tgo l Θ M3 (nA d) (nC d) _ cx hX.2.1 hW1 hX.2.2.1 (nT d) (nP d) (nL d) (nK d) (nU d) hT (sa i) (ra i) i (R i) (V i) hst.1 hst.2.1 hst.2.2.1 hst.2.2.2 (hk1.2.1 i hmem) hok.2.2
        refine r_cVv hC [.ref (sa i)] rfl (con) mi_Tgo lk_T162 in_Tgo (ci := 4) rfl rfl (by exact hT.1) rfl (Nat.le_of_ble_eq_true rfl) ⟨Nat.le_of_ble_eq_true rfl, Nat.le_of_ble_eq_true rfl⟩ ⟨by show _ + (kC cx - _) ≤ mc; omega, by show _ + (kS cx - _) ≤ ms; omega⟩ d_Tlearn_172 (fun M4 h4 => ?_)
        obtain ⟨hP4, f4, st4, sk4⟩ := h4
        have hX4 := hX.go hk1 hP4 f4 st4 sk4
        have hTn : ¬ JZ M3 d sa (l1 ++ i :: l2) (nT d) := fun z => by
          rcases z with z | ⟨x, hx, z⟩
          · exact PZ.not hX.2.1 hT.1 (by omega) z
          · have e1 := hT.1
            have e2 := (hX.1.2.2.1 x hx).1
            rw [z] at e1; omega
        have q4 := hX4.2.2 (nT d) (by have := hT.1; omega) hTn
        refine r_ii4 hC (nI (l1 ++ [i]).length) d_Tlearn_175 (by rw [List.length_append]; exact nI_1 _) ?_
        refine r_goto hC 147 d_Tlearn_178 (by decide) ?_
        rw [show (kC cp + 1) - kC cx + 0 + 0 + (kC cx - kC (cpGo (V i) (rn R V tS0 l1) cx (R i))) = (kC cp + 1) - kC (cpGo (V i) (rn R V tS0 l1) cx (R i)) by omega, show (kS cp + 7) - kS cx + 0 + 0 + (kS cx - kS (cpGo (V i) (rn R V tS0 l1) cx (R i))) = (kS cp + 7) - kS (cpGo (V i) (rn R V tS0 l1) cx (R i)) by omega]
        exact ih2 M4 _ hns hX4.1 (hF.trans hX4.2 (fun b hb z => KZ.old hF b hb (Or.inl (by rw [hns]; exact z)))) ⟨(q4.2.1 134).trans hTm.1, (q4.2.1 135).trans hTm.2⟩ (by omega) (by omega) hE2
  have cont : ∀ M1 : Mem, NX M1 d R U sa ra cap (p1 ++ p2) p1 (bkL R U (rn R U tS0 p1) p2 cp) → Fr (PZ M (nA d) (nC d)) M M1 → Gj p l e (rmo 17 mc ms) s m args below meth c Θ M1 [some (.ref (nT d)), some (.ref rj), some (.ref (sa t)), some (.int (nI p1.length)), some (.int (nI p1.length - 1))] ((kC cp + 1) - kC (bkL R U (rn R U tS0 p1) p2 cp)) ((kS cp + 7) - kS (bkL R U (rn R U tS0 p1) p2 cp)) (Fn below args s Θ mc ms post) 139 [] := by
    intro M1 hX1 hF1
    have hT := hX1.1.1
    have hT0 := hX.1.1
    have q1 := hF1.2 (nT d) (by have := hT0.1; omega) (PZ.not hX.2.1 hT0.1 (by omega))
    have hst := hX1.1.2.2.1 t htm
    refine r_aload_n hC 2 d_Tlearn_139 rfl rfl ?_
    refine r_iconst hC 1 d_Tlearn_140 (by decide) ?_
    refine r_putI hC 3 1 97 fl_T99 rfl (by exact hst.1) d_Tlearn_141 rfl rfl rfl rfl ?_
    have hnd2 := hnd
    rw [hp3] at hX1 hnd2
    have hX2 := hX1.und hnd2
    rw [← hp3, ← hV] at hX2
    refine r_iload_n hC 3 d_Tlearn_144 rfl rfl ?_
    refine r_is4 hC d_Tlearn_145 ?_
    have hTn : nT d ≠ sa t := one_ne hT.1 hst.1 (by omega)
    refine go p2 p1 _ _ rfl hX2.1 ((hF1.mono (fun _ _ z => Or.inl (Or.inl z))).trans hX2.2 (fun b hb z => KZ.old hF1 b hb (Or.inl z))) ⟨(q1.2.1 134), (q1.2.1 135)⟩ (by omega) (by omega) hcpE.symm
  have back : ∀ (n : Nat) (l1 l2 : List Nat) (M1 : Mem), l1.length = n → p2 = l1 ++ l2 → NX M1 d R U sa ra cap (p1 ++ p2) (p1 ++ l1) (bkL R U (rn R U tS0 (p1 ++ l1)) l2 cp) → Fr (PZ M (nA d) (nC d)) M M1 → Gj p l e (rmo 17 mc ms) s m args below meth c Θ M1 [some (.ref (nT d)), some (.ref rj), some (.ref (sa t)), some (.int (nI p1.length)), some (.int (nI (p1.length + l1.length) - 1))] ((kC cp + 1) - kC (bkL R U (rn R U tS0 (p1 ++ l1)) l2 cp)) ((kS cp + 7) - kS (bkL R U (rn R U tS0 (p1 ++ l1)) l2 cp)) (Fn below args s Θ mc ms post) 111 [] := by
    intro n
    induction n with
    | zero =>
      intro l1 l2 M1 hn hp2 hX hF
      have : l1 = [] := List.eq_nil_of_length_eq_zero hn
      subst this
      have hp2 : p2 = l2 := hp2
      subst hp2
      rw [List.append_nil] at hX ⊢
      rw [show p1.length + ([] : List Nat).length = p1.length from rfl]
      refine r_iload hC 4 d_Tlearn_111 rfl ?_
      refine r_iload_n hC 3 d_Tlearn_113 rfl rfl ?_
      refine r_icmp_lt hC 139 d_Tlearn_114 (by decide) (fun _ => ?_) (fun z => ?_)
      · exact cont M1 hX hF
      · exact absurd (nI_m1 (by omega)) z
    | succ n ih =>
      intro l1 l2 M1 hn hp2 hX hF
      obtain ⟨l1, i, rfl⟩ : ∃ (l : List Nat) (i : Nat), l1 = l ++ [i] := by
        rcases List.eq_nil_or_concat l1 with z | ⟨l, i, z⟩
        · rw [z] at hn; cases hn
        · exact ⟨l, i, by rw [z, List.concat_eq_append]⟩
      have hn1 : l1.length = n := by simpa using hn
      have hns : p1 ++ p2 = (p1 ++ l1) ++ i :: l2 := by rw [hp2]; simp
      have hk1 := hk
      rw [hns] at hX hk1
      rw [← List.append_assoc] at hX ⊢
      have hlen : (p1 ++ l1 ++ i :: l2).length ≤ 300 := hX.1.2.2.2.2.2
      have hl2 : p1.length + l1.length < 300 := by simp at hlen; omega
      rw [show nI (p1.length + (l1 ++ [i]).length) - 1 = nI (p1 ++ l1).length by rw [List.length_append (as := l1), List.length_append]; exact nI_pred _]
      have hW1 : WF (rn R U tS0 (p1 ++ l1)) := WF.rn hk1.pre
      have hok := okR_of (U := U) hk1
      have hW2 := hW1.gr (u := U i) hok
      have hXP := hX.2.1
      rw [rn_snoc] at hXP hX ⊢
      have hX0 := hX
      have hmem : i ∈ p1 ++ l1 ++ i :: l2 := by simp
      have hst := hX.1.2.2.1 i hmem
      have hsd := hX.2.2.2.1 (p1 ++ l1) i [] rfl
      have hT := hX.1.1
      have hLs := hX.1.2.1
      have hgi : (p1 ++ l1 ++ i :: l2)[(p1 ++ l1).length]? = some i := by simp
      have m1 := cpBk_mono (gR (U i) (rn R U tS0 (p1 ++ l1)) (R i)).2 (gR (U i) (rn R U tS0 (p1 ++ l1)) (R i)).1 (bkL R U (gR (U i) (rn R U tS0 (p1 ++ l1)) (R i)).1 l2 cp) (rO (R i)) (pr (rn R U tS0 (p1 ++ l1)) (rO (R i)))
      have m2 := bkL_mono R U (gR (U i) (rn R U tS0 (p1 ++ l1)) (R i)).1 l2 cp
      have m3 := bkL_mono R U (rn R U tS0 p1) l1 (bkL R U (rn R U tS0 (p1 ++ l1)) (i :: l2) cp)
      have m4 : bkL R U (rn R U tS0 p1) p2 cp = bkL R U (rn R U tS0 p1) l1 (bkL R U (rn R U tS0 (p1 ++ l1)) (i :: l2) cp) := by rw [hp2, List.append_assoc, bkL_app, ← rn_app]; rfl
      rw [← m4] at m3
      have m5 : bkL R U (rn R U tS0 (p1 ++ l1)) (i :: l2) cp = cpBk (gR (U i) (rn R U tS0 (p1 ++ l1)) (R i)).2 (gR (U i) (rn R U tS0 (p1 ++ l1)) (R i)).1 (bkL R U (gR (U i) (rn R U tS0 (p1 ++ l1)) (R i)).1 l2 cp) (rO (R i)) (pr (rn R U tS0 (p1 ++ l1)) (rO (R i))) := rfl
      rw [m5] at m3
      have ih2 := ih l1 (i :: l2)
      rw [m5] at ih2
      generalize hcx : bkL R U (gR (U i) (rn R U tS0 (p1 ++ l1)) (R i)).1 l2 cp = cx at *
      generalize hcy : cpBk (gR (U i) (rn R U tS0 (p1 ++ l1)) (R i)).2 (gR (U i) (rn R U tS0 (p1 ++ l1)) (R i)).1 cx (rO (R i)) (pr (rn R U tS0 (p1 ++ l1)) (rO (R i))) = cy at *
      refine r_iload hC 4 d_Tlearn_111 rfl ?_
      refine r_iload_n hC 3 d_Tlearn_113 rfl rfl ?_
      refine r_icmp_lt hC 139 d_Tlearn_114 (by decide) (fun z => ?_) (fun _ => ?_)
      · exact absurd z (nI_nlt (by simp) (by simp; omega))
      · skip
        refine r_aload_n hC 0 d_Tlearn_117 rfl rfl ?_
        refine r_aload_n hC 0 d_Tlearn_118 rfl rfl ?_
        refine r_getS hC 4 3 131 fl_T27 (by exact hT.1) d_Tlearn_119 rfl rfl (by exact hT.2.2.2.1) ?_
        refine r_iload hC 4 d_Tlearn_122 rfl ?_
        refine r_cVr hC [.int (nI (p1 ++ l1).length)] rfl (c_Aget l Θ M1 (nL d) (p1 ++ l1).length _ _ hLs (by simp)) mi_Aget lk_T151 in_Aget (ci := 6) rfl rfl (by exact hLs.1) rfl (Nat.le_of_ble_eq_true rfl) ⟨Nat.le_of_ble_eq_true rfl, Nat.le_of_ble_eq_true rfl⟩ ⟨by show _ + 0 ≤ mc; omega, by show _ + 0 ≤ ms; omega⟩ d_Tlearn_124 (fun r M2 h2 => ?_)
        obtain ⟨rfl, rfl⟩ := h2
        rw [map_get hgi]
        refine r_cast hC 3 rfl hst.1 cl_T31 ca_SS d_Tlearn_127 ?_
        have con := c_Tback l Θ M2 (nA d) (nC d) _ cx hXP hW2 hX.2.2.1 (nT d) hT.1 (sa i) (gR (U i) (rn R U tS0 (p1 ++ l1)) (R i)).2 (rO (R i)) (pr (rn R U tS0 (p1 ++ l1)) (rO (R i))) (las (rn R U tS0 (p1 ++ l1)) (rO (R i))) (atK (rn R U tS0 (p1 ++ l1)) (rO (R i))) hok.1 hok.2.1 (fun ha x hx => at_ok hW1 hok ha hx) hst.1 hsd.2.1 hsd.2.2
        rw [hcy] at con
        refine r_cVv hC [.ref (sa i)] rfl (con) mi_Tback lk_T158 in_Tback (ci := 4) rfl rfl (by exact hT.1) rfl (Nat.le_of_ble_eq_true rfl) ⟨Nat.le_of_ble_eq_true rfl, Nat.le_of_ble_eq_true rfl⟩ ⟨by show _ + (kC cx - kC cy) ≤ mc; omega, by show _ + (kS cx - kS cy) ≤ ms; omega⟩ d_Tlearn_130 (fun M3 h3 => ?_)
        obtain ⟨hP3, f3⟩ := h3
        have hX3 := hX0.back hk1 (by rw [hcy]; exact hP3) f3
        rw [hcy] at hX3
        refine r_ii4 hC (nI (p1.length + l1.length) - 1) d_Tlearn_133 (by rw [List.length_append]; exact i_m1 _) ?_
        refine r_goto hC 111 d_Tlearn_136 (by decide) ?_
        rw [show (kC cp + 1) - kC cx + 0 + (kC cx - kC cy) = (kC cp + 1) - kC cy by omega, show (kS cp + 7) - kS cx + 0 + (kS cx - kS cy) = (kS cp + 7) - kS cy by omega]
        exact ih2 M3 hn1 (by rw [hp2]; simp) (by rw [hns]; exact hX3) (hF.trans f3 (PZ.old hF))
  have hT := hX.1.1
  have hLs := hX.1.2.1
  have hsz := hLs.len
  rw [List.length_map] at hsz
  have find : ∀ (n i : Nat), i + n = p1.length → Gj p l e (rmo 17 mc ms) s m args below meth c Θ M [some (.ref (nT d)), some (.ref rj), some (.ref (sa t)), some (.int (nI i)), none] 1 7 (Fn below args s Θ mc ms post) 82 [] := by
    intro n
    induction n with
    | zero =>
      intro i hi
      have hi : i = p1.length := hi
      subst hi
      have hgi : (p1 ++ p2)[p1.length]? = some t := by rw [hp3]; simp
      refine r_aload_n hC 0 d_Tlearn_82 rfl rfl ?_
      refine r_getS hC 4 3 131 fl_T27 (by exact hT.1) d_Tlearn_83 rfl rfl (by exact hT.2.2.2.1) ?_
      refine r_iload_n hC 3 d_Tlearn_86 rfl rfl ?_
      refine r_cVr hC [.int (nI p1.length)] rfl (c_Aget l Θ M (nL d) p1.length _ _ hLs (by rw [hp3]; simp)) mi_Aget lk_T151 in_Aget (ci := 6) rfl rfl (by exact hLs.1) rfl (Nat.le_of_ble_eq_true rfl) ⟨Nat.le_of_ble_eq_true rfl, Nat.le_of_ble_eq_true rfl⟩ ⟨by show 1 + 0 ≤ mc; omega, by show 7 + 0 ≤ ms; omega⟩ d_Tlearn_87 (fun r M2 h2 => ?_)
      obtain ⟨rfl, rfl⟩ := h2
      rw [map_get hgi]
      refine r_aload_n hC 2 d_Tlearn_90 rfl rfl ?_
      refine r_acmp_eq hC (rx := some (sa t)) (ry := some (sa t)) 100 d_Tlearn_91 (by decide) (fun _ => ?_) (fun z => absurd rfl z)
      refine r_aload_n hC 0 d_Tlearn_100 rfl rfl ?_
      refine r_getS hC 4 3 131 fl_T27 (by exact hT.1) d_Tlearn_101 rfl rfl (by exact hT.2.2.2.1) ?_
      refine r_cVi hC [] rfl (c_Asize l Θ M2 (nL d) hLs.1) mi_Asize lk_T118 in_Asize (ci := 6) rfl rfl (by exact hLs.1) rfl (Nat.le_of_ble_eq_true rfl) ⟨Nat.le_of_ble_eq_true rfl, Nat.le_of_ble_eq_true rfl⟩ ⟨by show 1 + 0 + 0 ≤ mc; omega, by show 7 + 0 + 0 ≤ ms; omega⟩ d_Tlearn_104 (fun r M3 h3 => ?_)
      obtain ⟨rfl, rfl⟩ := h3
      rw [hsz]
      refine r_iconst hC 1 d_Tlearn_107 (by decide) ?_
      refine r_isub hC _ d_Tlearn_108 rfl ?_
      refine r_is4 hC d_Tlearn_109 ?_
      have := back p2.length p2 [] M3 rfl (by simp) hX Fr.rf
      rw [show bkL R U (rn R U tS0 (p1 ++ p2)) [] cp = cp from rfl, Nat.add_sub_cancel_left, Nat.add_sub_cancel_left, ← List.length_append] at this
      exact this
    | succ n ih =>
      intro i hi
      obtain ⟨x, hx, hxm⟩ := get_some (l := p1) (i := i) (by omega)
      have hgi : (p1 ++ p2)[i]? = some x := by rw [List.getElem?_append_left (by omega)]; exact hx
      have hxt : sa x ≠ sa t := fun z => by
        have e1 := hX.1.2.2.2.2.1 x (List.mem_append_left _ hxm) t htm z
        rw [hp3, List.nodup_append] at hnd
        exact hnd.2.2 x hxm t List.mem_cons_self e1
      refine r_aload_n hC 0 d_Tlearn_82 rfl rfl ?_
      refine r_getS hC 4 3 131 fl_T27 (by exact hT.1) d_Tlearn_83 rfl rfl (by exact hT.2.2.2.1) ?_
      refine r_iload_n hC 3 d_Tlearn_86 rfl rfl ?_
      refine r_cVr hC [.int (nI i)] rfl (c_Aget l Θ M (nL d) i _ _ hLs (by simp; omega)) mi_Aget lk_T151 in_Aget (ci := 6) rfl rfl (by exact hLs.1) rfl (Nat.le_of_ble_eq_true rfl) ⟨Nat.le_of_ble_eq_true rfl, Nat.le_of_ble_eq_true rfl⟩ ⟨by show 1 + 0 ≤ mc; omega, by show 7 + 0 ≤ ms; omega⟩ d_Tlearn_87 (fun r M2 h2 => ?_)
      obtain ⟨rfl, rfl⟩ := h2
      rw [map_get hgi]
      refine r_aload_n hC 2 d_Tlearn_90 rfl rfl ?_
      refine r_acmp_eq hC (rx := some (sa x)) (ry := some (sa t)) 100 d_Tlearn_91 (by decide) (fun z => absurd (Option.some.inj z) hxt) (fun _ => ?_)
      refine r_ii3 hC (nI (i + 1)) d_Tlearn_94 (nI_1 _) ?_
      refine r_goto hC 82 d_Tlearn_97 (by decide) ?_
      exact ih (i + 1) (by omega)
  refine r_iconst hC 0 d_Tlearn_80 (by decide) ?_
  refine r_is3 hC d_Tlearn_81 ?_
  exact find p1.length 0 (by omega)
