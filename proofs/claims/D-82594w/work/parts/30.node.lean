/-! A NODE's tree, mid-way: the rows l of ns are done -/
def Lb (M : Mem) (d : NdA) : Prop := ow M (nT d) = nG d ∧ ow M (nP d) = nG d ∧ ow M (nL d) = nG d ∧ ∀ o, o ≤ 40 → ow M (nA d o) = nG d ∧ ow M (nC d o) = nG d
def NX (M : Mem) (d : NdA) (R : Nat → RowT) (U : Nat → Bool) (sa ra : Nat → Nat) (cap : Nat) (ns l : List Nat) (cp : Nat → Nat) : Prop :=
  NB M d R U sa ra cap ns ∧ PA M (nA d) (nC d) (rn R U tS0 l) cp ∧ CPok cp ∧ SD M (nA d) R U sa l ∧ Lb M d ∧ ∀ i ∈ ns, ow M (sa i) = nG d
/-- the cells that doing touches -/
def JZ (M : Mem) (d : NdA) (sa : Nat → Nat) (ns : List Nat) : Nat → Prop := fun b => PZ M (nA d) (nC d) b ∨ ∃ i ∈ ns, b = sa i
theorem JZ.old {Z : Nat → Prop} {M N : Mem} {d : NdA} {sa : Nat → Nat} {ns : List Nat} (h : Fr Z M N) : ∀ b, kd M b ≠ 0 → JZ N d sa ns b → JZ M d sa ns b := by
  intro b hb hz
  rcases hz with hz | hz
  · exact Or.inl (PZ.old h b hb hz)
  · exact Or.inr hz
/-- .. and judging -/
def KZ (M : Mem) (d : NdA) (sa : Nat → Nat) (ns : List Nat) : Nat → Prop := fun b => JZ M d sa ns b ∨ b = nT d ∨ b = nL d ∨ kd M b = 1000 + nL d
theorem KZ.old {Z : Nat → Prop} {M N : Mem} {d : NdA} {sa : Nat → Nat} {ns : List Nat} (h : Fr Z M N) : ∀ b, kd M b ≠ 0 → KZ N d sa ns b → KZ M d sa ns b := by
  intro b hb hz
  rcases hz with hz | hz | hz | hz
  · exact Or.inl (JZ.old h b hb hz)
  · exact Or.inr (Or.inl hz)
  · exact Or.inr (Or.inr (Or.inl hz))
  · rw [(h.1 b hb).1] at hz
    exact Or.inr (Or.inr (Or.inr hz))
/-- .. and learning, by the node's name -/
def LZ (M : Mem) (d : NdA) : Nat → Prop := fun b => PZ M (nA d) (nC d) b ∨ (kd M b = 4 ∧ ow M b = nG d) ∨ b = nT d ∨ b = nL d ∨ kd M b = 1000 + nL d ∨ b = nK d ∨ b = nU d
theorem LZ.old {Z : Nat → Prop} {M N : Mem} {d : NdA} (h : Fr Z M N) : ∀ b, kd M b ≠ 0 → LZ N d b → LZ M d b := by
  intro b hb hz
  unfold LZ at hz ⊢
  rw [(h.1 b hb).1, (h.1 b hb).2] at hz
  rcases hz with hz | hz
  · exact Or.inl (PZ.old h b hb hz)
  · exact Or.inr hz
theorem Lb.fr {Z : Nat → Prop} {M N : Mem} {d : NdA} {S : TS} {cp : Nat → Nat} (h : Lb M d) (hf : Fr Z M N) (hP : PA M (nA d) (nC d) S cp) (hT : TrO M (nT d) (nP d) (nL d) (nK d) (nU d) (nA d)) (hL : kd M (nL d) = 7) : Lb N d := by
  obtain ⟨h1, h2, h3, h4⟩ := h
  have hT1 := hT.1
  have hT2 := hT.2.2.2.2.2.2.1
  exact ⟨(hf.1 _ (by omega)).2.trans h1, (hf.1 _ (by omega)).2.trans h2, (hf.1 _ (by omega)).2.trans h3, fun o ho => ⟨(hf.1 _ (by rw [hP.kp ho]; omega)).2.trans (h4 o ho).1, (hf.1 _ (by rw [hP.kl ho]; omega)).2.trans (h4 o ho).2⟩⟩
section NXs
variable {M N : Mem} {d : NdA} {R : Nat → RowT} {U : Nat → Bool} {sa ra : Nat → Nat} {cap : Nat} {ns l : List Nat} {cp : Nat → Nat} {Z : Nat → Prop}
theorem NX.lb (h : NX M d R U sa ra cap ns l cp) (hf : Fr Z M N) : Lb N d ∧ ∀ i ∈ ns, ow N (sa i) = nG d :=
  ⟨h.2.2.2.2.1.fr hf h.2.1 h.1.1 h.1.2.1.1, fun i hi => (hf.1 _ (by rw [(h.1.2.2.1 i hi).1]; omega)).2.trans (h.2.2.2.2.2 i hi)⟩
/-- nothing of it is touched, but perhaps the tree object -/
theorem NX.fr (h : NX M d R U sa ra cap ns l cp) (hf : Fr Z M N) (hT : TrO N (nT d) (nP d) (nL d) (nK d) (nU d) (nA d)) (z1 : ∀ b, ow M b = nG d → kd M b = 2 ∨ kd M b = 7 ∨ kd M b = 4 → ¬ Z b) (z2 : ∀ b a, kd M b = 1000 + a → kd M a = 7 → ow M a = nG d → ¬ Z b) (z3 : ∀ b, kd M b = 3 ∨ kd M b = 30 → ¬ Z b) (hl : ∀ i ∈ l, i ∈ ns) : NX N d R U sa ra cap ns l cp := by
  have hlb := h.lb hf
  obtain ⟨⟨h1, h2, h3, h4, h5, h6⟩, hP, hc, hS, hb, ho⟩ := h
  refine ⟨⟨hT, h2.fr (hf.2 _ (by have := h2.1; omega) (z1 _ hb.2.2.1 (Or.inr (Or.inl h2.1)))) (fun q hq => hf.2 q (by omega) (z2 q _ hq h2.1 hb.2.2.1)) (fun q hq => hf.2 q (by omega) (z3 q (Or.inr hq))), fun i hi => (h3 i hi).fr hf (z1 _ (ho i hi) (Or.inr (Or.inr (h3 i hi).1))) (z3 _ (Or.inl (h3 i hi).2.2.2.1)), h4, h5, h6⟩, hP.fr hf (fun b hk hz => ?_), hc, hS.fr hf (fun i hi => z1 _ (ho i (hl i hi)) (Or.inr (Or.inr (h3 i (hl i hi)).1))), hlb.1, hlb.2⟩
  rcases hz with ⟨o, ho2, rfl | rfl | hz⟩ | hz
  · exact z1 _ (hb.2.2.2 o ho2).1 (Or.inl (hP.kp ho2))
  · exact z1 _ (hb.2.2.2 o ho2).2 (Or.inr (Or.inl (hP.kl ho2)))
  · exact z2 b _ hz (hP.kl ho2) (hb.2.2.2 o ho2).2
  · exact z3 b (Or.inr hz)
theorem nsOk.pre {l1 l2 : List Nat} {i : Nat} (h : nsOk R (l1 ++ i :: l2)) : nsOk R l1 := h.sub (List.sublist_append_left _ _)
theorem NX.back {l1 l2 : List Nat} {i : Nat} (h : NX M d R U sa ra cap (l1 ++ i :: l2) (l1 ++ [i]) cp) (hk : nsOk R (l1 ++ i :: l2))
    (hP : PA N (nA d) (nC d) (if (gR (U i) (rn R U tS0 l1) (R i)).2 = true then bkS (gR (U i) (rn R U tS0 l1) (R i)).1 (rO (R i)) (pr (rn R U tS0 l1) (rO (R i))) (las (rn R U tS0 l1) (rO (R i))) (atK (rn R U tS0 l1) (rO (R i))) else (gR (U i) (rn R U tS0 l1) (R i)).1) (cpBk (gR (U i) (rn R U tS0 l1) (R i)).2 (gR (U i) (rn R U tS0 l1) (R i)).1 cp (rO (R i)) (pr (rn R U tS0 l1) (rO (R i)))))
    (hf : Fr (PZ M (nA d) (nC d)) M N) : NX N d R U sa ra cap (l1 ++ i :: l2) l1 (cpBk (gR (U i) (rn R U tS0 l1) (R i)).2 (gR (U i) (rn R U tS0 l1) (R i)).1 cp (rO (R i)) (pr (rn R U tS0 l1) (rO (R i)))) := by
  have hW : WF (rn R U tS0 l1) := WF.rn hk.pre
  have hok := okR_of (U := U) hk
  rw [go_back hW hok] at hP
  have hlb := h.lb hf
  obtain ⟨hB, hP0, hc, hS, hb, ho⟩ := h
  rw [rn_snoc] at hP0
  have hW2 : WF (gR (U i) (rn R U tS0 l1) (R i)).1 := hW.gr hok
  exact ⟨hB.pz hP0 hf, hP, cpBk_CP hP0 hW2 hc (fun x hx => (hW.ple hx).1), hS.init.fr hf (fun j hj => PZ.not hP0 (hB.2.2.1 j (List.mem_append_left _ hj)).1 (by omega)), hlb.1, hlb.2⟩
theorem NX.go {l1 l2 : List Nat} {i : Nat} (h : NX M d R U sa ra cap (l1 ++ i :: l2) l1 cp) (hk : nsOk R (l1 ++ i :: l2))
    (hP : PA N (nA d) (nC d) (gR (U i) (rn R U tS0 l1) (R i)).1 (cpGo (U i) (rn R U tS0 l1) cp (R i))) (hf : Fr (GZ M (nA d) (nC d) (sa i)) M N) (hst : Sti N (nA d) (sa i) (gR (U i) (rn R U tS0 l1) (R i)).2 (rn R U tS0 l1) (rO (R i))) (hsk : StK M N (sa i)) :
    NX N d R U sa ra cap (l1 ++ i :: l2) (l1 ++ [i]) (cpGo (U i) (rn R U tS0 l1) cp (R i)) ∧ Fr (JZ M d sa (l1 ++ i :: l2)) M N := by
  have hW : WF (rn R U tS0 l1) := WF.rn hk.pre
  have hlb := h.lb hf
  obtain ⟨hB, hP0, hc, hS, hb, ho⟩ := h
  have hi : i ∈ l1 ++ i :: l2 := by simp
  have hnd := hk.1
  rw [List.nodup_append] at hnd
  refine ⟨⟨hB.gz hP0 hi hf hsk, by rw [rn_snoc]; exact hP, cpGo_CP hP0 hW hc (hk.2.1 i hi), (hS.fr hf (fun j hj z => ?_)).snoc hst, hlb.1, hlb.2⟩, hf.mono fun b _ z => ?_⟩
  · have hj2 : j ∈ l1 ++ i :: l2 := List.mem_append_left _ hj
    rcases z with z | z
    · exact PZ.not hP0 (hB.2.2.1 j hj2).1 (by omega) z
    · have := hB.2.2.2.2.1 j hj2 i hi z
      exact hnd.2.2 j hj i List.mem_cons_self this
  · rcases z with z | z
    · exact Or.inl z
    · exact Or.inr ⟨i, hi, z⟩
/-- one more step in the list -/
theorem NX.ins {l1 l2 : List Nat} {j q : Nat} {z : Int32} {g : Nat → Option Nat} (h : NX M d R U sa ra cap (l1 ++ l2) l1 cp) (hj : StS M (sa j) (ra j) j (R j) (U j)) (hoj : ow M (sa j) = nG d) (hnew : ∀ i ∈ l1 ++ l2, sa i ≠ sa j) (hlen : (l1 ++ l2).length < 300) (hcap : gcap (l1 ++ l2).length cap < 65536) (hq : GQ M (nL d) q (l1 ++ l2).length cap) (hle : (l1 ++ l2).length < gcap (l1 ++ l2).length cap)
    (hg : ∀ i, i < (l1 ++ l2).length + 1 → g i = ((l1 ++ j :: l2).map sa)[i]?) (hN : N = stL M (nL d) q (gcap (l1 ++ l2).length cap) ((l1 ++ l2).length + 1) z g) : NX N d R U sa ra (gcap (l1 ++ l2).length cap) (l1 ++ j :: l2) l1 cp ∧ Fr (fun b => b = nL d ∨ kd M b = 1000 + nL d) M N := by
  have hf := stL_fr (cap := gcap (l1 ++ l2).length cap) (n := (l1 ++ l2).length + 1) (z := z) (g := g) hq.own
  rw [← hN] at hf
  have hlb := h.lb hf
  obtain ⟨⟨h1, h2, h3, h4, h5, h6⟩, hP, hc, hS, hb, ho⟩ := h
  have hkL := h2.1
  have hkj := hj.1
  have nz : ∀ x, kd M x ≠ 7 → kd M x < 1000 → ¬ (x = nL d ∨ kd M x = 1000 + nL d) := fun x a b c => by
    rcases c with c | c
    · rw [c] at a; exact a hkL
    · omega
  have mem : ∀ i, i ∈ l1 ++ j :: l2 → i = j ∨ i ∈ l1 ++ l2 := fun i hi => by
    simp at hi ⊢
    rcases hi with hi | hi | hi
    · exact Or.inr (Or.inl hi)
    · exact Or.inl hi
    · exact Or.inr (Or.inr hi)
  have hll : (l1 ++ j :: l2).length = (l1 ++ l2).length + 1 := by simp; omega
  refine ⟨⟨⟨h1.fr hf (nz _ (by rw [h1.1]; omega) (by rw [h1.1]; omega)) (nz _ (by rw [h1.2.2.2.2.2.2.1]; omega) (by rw [h1.2.2.2.2.2.2.1]; omega)), ?_, fun i hi => ?_, h4, fun i hi k hk2 e => ?_, by omega⟩, hP.fr hf (fun b hkb hz w => ?_), hc, hS.fr hf (fun i hi => ?_), hlb.1, fun i hi => ?_⟩, hf⟩
  · rw [hN]
    exact stL_lst hkL hq.own (by rw [List.length_map, hll]) (by omega) (by omega) hcap hg
  · have hs : StS M (sa i) (ra i) i (R i) (U i) := by
      rcases mem i hi with rfl | hi
      · exact hj
      · exact h3 i hi
    exact hs.fr hf (nz _ (by rw [hs.1]; omega) (by rw [hs.1]; omega)) (nz _ (by rw [hs.2.2.2.1]; omega) (by rw [hs.2.2.2.1]; omega))
  · rcases mem i hi with hij | hi
    · rcases mem k hk2 with hkj2 | hk2
      · rw [hij, hkj2]
      · rw [hij] at e
        exact absurd e.symm (hnew k hk2)
    · rcases mem k hk2 with hkj2 | hk2
      · rw [hkj2] at e
        exact absurd e (hnew i (by assumption))
      · exact h5 i hi k hk2 e
  · rcases w with w | w
    · rcases hz with ⟨o, ho2, hz | hz | hz⟩ | hz
      · have := hP.kp ho2; rw [← hz, w] at this; omega
      · exact h4 o ho2 (hz.symm.trans w)
      · rw [w] at hz; omega
      · rw [w] at hz; omega
    · rcases hz with ⟨o, ho2, hz | hz | hz⟩ | hz
      · have := hP.kp ho2; rw [← hz] at this; omega
      · have := hP.kl ho2; rw [← hz] at this; omega
      · exact h4 o ho2 (by omega)
      · omega
  · have hs := (h3 i (List.mem_append_left _ hi)).1
    exact nz _ (by omega) (by omega)
  · rcases mem i hi with rfl | hi
    · exact (hf.1 _ (by omega)).2.trans hoj
    · exact hlb.2 i hi
/-- a step that is not done is said undone -/
theorem NX.und {l1 l2 : List Nat} {t : Nat} (h : NX M d R U sa ra cap (l1 ++ t :: l2) l1 cp) (hnd : (l1 ++ t :: l2).Nodup) : NX (sI M 97 (sa t) 1) d R (va_up U t true) sa ra cap (l1 ++ t :: l2) l1 cp ∧ Fr (JZ M d sa (l1 ++ t :: l2)) M (sI M 97 (sa t) 1) := by
  have hf := sI_fr M 97 (sa t) 1
  have hlb := h.lb hf
  obtain ⟨⟨h1, h2, h3, h4, h5, h6⟩, hP, hc, hS, hb, ho⟩ := h
  have ht : t ∈ l1 ++ t :: l2 := by simp
  have hk := (h3 t ht).1
  rw [List.nodup_append] at hnd
  have hnt : ∀ i ∈ l1, U i = va_up U t true i := fun i hi => (va_up_ne _ _ (fun z => hnd.2.2 i hi t List.mem_cons_self z)).symm
  have nz : ∀ x, kd M x ≠ 4 → x ≠ sa t := fun x a b => by rw [b] at a; exact a hk
  refine ⟨⟨⟨h1, h2.fr (hf.2 _ (by have := h2.1; omega) (nz _ (by have := h2.1; omega))) (fun q hq => hf.2 q (by omega) (nz _ (by omega))) (fun q hq => hf.2 q (by omega) (nz _ (by omega))), fun i hi => ?_, h4, h5, h6⟩, ?_, hc, ?_, hlb.1, hlb.2⟩, hf.mono fun b _ z => Or.inr ⟨t, ht, z⟩⟩
  · by_cases hit : i = t
    · subst hit
      obtain ⟨a1, a2, a3, a4⟩ := h3 i hi
      refine ⟨a1, a2, ?_, a4.fr hf (nz _ (by rw [a4.1]; omega))⟩
      show up2 (fI M) 97 (sa i) 1 97 (sa i) = _
      rw [up2_self, va_up_self]
      rfl
    · rw [va_up_ne _ _ hit]
      exact (h3 i hi).fr hf (fun z => hit (h5 i hi t ht z)) (nz _ (by rw [(h3 i hi).2.2.2.1]; omega))
  · rw [← rn_cong hnt]
    exact hP.fr hf (fun b hkb _ => nz _ (by omega))
  · refine SD.cong (U := U) (hS.fr hf (fun i hi z => ?_)) hnt
    exact hnd.2.2 i hi t List.mem_cons_self (h5 i (List.mem_append_left _ hi) t ht z)
end NXs
