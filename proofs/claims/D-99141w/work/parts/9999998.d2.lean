/-! ===== chains: one more, what they tell ===== -/
section D2
variable {W' : Int → Int → Prop} {d : Nat} {h h' h1 h2 h0 : AH} {Q : QQ} {x y z k s a b c v n p q r o i f N lo hi A B E cap el sp dp capL elL capS elS l' : Int} {S T T' : Int → Int → Int} {t nw nw' pt of tp : Int → Int} {tl : ALoc} {w u W l cs : List Int} {hm : Bool} {D : Nat} {its : List (Int × List Int)}
set_option maxHeartbeats 4000000
theorem tne {u1 v1 : Int} (h1 : (ah_t h x).1 = u1) (h2 : (ah_t h y).1 = v1) (hn : u1 ≠ v1) : x ≠ y := fun e => hn (by rw [← h1, ← h2, e])
theorem getD_app {g : Int × List Int} {j : Nat} : (its ++ [g]).getD j (0, []) = if j = its.length then g else if j < its.length then its.getD j (0, []) else (0, []) := by
  rw [List.getD_eq_getElem?_getD]
  by_cases e : j = its.length
  · rw [if_pos e, e]; simp
  · rw [if_neg e]
    by_cases e2 : j < its.length
    · rw [if_pos e2, List.getElem?_append_left e2, ← List.getD_eq_getElem?_getD]
    · rw [if_neg e2, List.getElem?_eq_none (by simp; omega)]; rfl
theorem c_155 (hF : FRE h) (hC : CHN hm D a h p its capL elL capS elS) (hc : isSg c) (hv : VSq hm D a (chX h p elL elS) h v cs) (hl : its.length ≤ 2000)
    (hQ : ∀ h' capL' elL' capS' elS', CHN hm D a h' p (its ++ [(c, cs)]) capL' elL' capS' elS' → Ext (fun r i => chX h p elL elS r) h h' → ah_n h' ≤ ah_n h + 2 → ah_s h' + 4 * capL + 2 * capS ≤ ah_s h + 4 * capL' + 2 * capS' → Q (.inl none) h') : wpC (d + 8) 155 [.inr (.inr p), .inl c, .inr (.inr v)] h Q := by
  obtain ⟨⟨c1, c2, c3⟩, c4, c5, c6, c7, c8, c9⟩ := hC
  have t1 : (ah_t h p).1 = 15 := by rw [c1]
  have tl1 : (ah_t h (ah_m h p 0)).1 = 3 := by rw [c4.1.1]
  have te1 : (ah_t h elL).1 = -10 := by rw [c4.2.1]
  have ts1 : (ah_t h (ah_m h p 1)).1 = 11 := by rw [c5.1.1]
  have tf1 : (ah_t h elS).1 = -2 := by rw [c5.2.1]
  have pN : p < ah_n h := FRE_lt hF (by omega)
  have lN : ah_m h p 0 < ah_n h := FRE_lt hF (by omega)
  have eN : elL < ah_n h := FRE_lt hF (by omega)
  have sN : ah_m h p 1 < ah_n h := FRE_lt hF (by omega)
  have fN : elS < ah_n h := FRE_lt hF (by omega)
  generalize hl0 : ah_m h p 0 = L0 at *
  generalize hs0 : ah_m h p 1 = S0 at *
  have nLS : L0 ≠ S0 := tne tl1 ts1 (by decide)
  have nLf : L0 ≠ elS := tne tl1 tf1 (by decide)
  have neS : elL ≠ S0 := tne te1 ts1 (by decide)
  have nef : elL ≠ elS := tne te1 tf1 (by decide)
  have npS : p ≠ S0 := tne t1 ts1 (by decide)
  have npf : p ≠ elS := tne t1 tf1 (by decide)
  have npL : p ≠ L0 := tne t1 tl1 (by decide)
  have npe : p ≠ elL := tne t1 te1 (by decide)
  have lm : (its.map Prod.fst).length = its.length := List.length_map ..
  have hX0 : ∀ r, chX h p elL elS r ↔ (r = p ∨ r = L0 ∨ r = S0 ∨ r = elL ∨ r = elS) := fun r => by unfold chX; rw [hl0, hs0]
  rw [wpC_B]; refine ⟨⟨Nat.zero_lt_succ _, Nat.le_of_ble_eq_true rfl⟩, ?_⟩; simp only [lent]
  simp (disch := omega) only [q_155_0, b_155_0, ↓w_aload_n_0, ↓w_iload_n_1, ↓w_aload_n_2, ↓w_pop_i, ↓w_pop_a, ↓w_getfield, ↓w_return, ↓w_invokevirtual_1, ↓w_invokeinterface_1, stw_0, stw_i, stw_l, stw_r, ofK0, ofK1, ofK2, lst1, lst2, lkill, kont_none, kont_some, Int.reduceToNat, List.length_cons, List.length_nil, Nat.reduceAdd, Nat.reduceLeDiff, Nat.zero_le, true_and, and_true, if_true, if_false, ne_eq, Int.reduceEq, Int.reduceNeg, not_false_eq_true, not_true_eq_false, ↓reduceIte, Int.reduceLT, Int.reduceLE, and_self, or_true, true_or, or_false, false_or, false_and, and_false, ah_t_w, ah_m_w, ah_n_w, lst1_0, List.tail_cons, w32_i, zbd, lst2_0, t1, ts1, hs0]
  refine c_34 (d := d + 1) hF c5 hc (by omega) (fun h1 capS' elS' hs1 hE1 hel1 n1 s1 hcp1 => ?_)
  have hF1 := FRE_ext hF hE1
  have t1' : ah_t h1 p = (15, 0) := by rw [hE1.2.1 _ (Or.inl pN)]; exact c1
  have t1a : (ah_t h1 p).1 = 15 := by rw [t1']
  have m0' : ah_m h1 p 0 = L0 := by rw [hE1.2.2 _ _ pN (by omega)]; exact hl0
  have m1' : ah_m h1 p 1 = S0 := by rw [hE1.2.2 _ _ pN (by omega)]; exact hs0
  have hL1 : LST h1 L0 its.length capL elL := LST_ext c4 hF hE1 (fun i => ⟨by omega, by omega⟩)
  have tl1' : (ah_t h1 L0).1 = 3 := by rw [hL1.1.1]
  have elM : ∀ i, ah_m h1 elL i = ah_m h elL i := fun i => hE1.2.2 _ _ eN (by omega)
  -- values after the sign
  have X1 : ∀ {v cs}, VSq hm D a (chX h p elL elS) h v cs → VSq hm D a (fun r => r = p ∨ r = L0 ∨ r = S0 ∨ r = elL ∨ r = elS') h1 v cs := fun hq => VSq_ext hq hE1 (fun r i w => (hX0 r).2 (by omega)) (fun r x => by
    rcases x with x | x | x | x | x
    · exact Or.inl ((hX0 r).2 (by omega))
    · exact Or.inl ((hX0 r).2 (by omega))
    · exact Or.inl ((hX0 r).2 (by omega))
    · exact Or.inl ((hX0 r).2 (by omega))
    · rcases hel1 with u | u
      · exact Or.inl ((hX0 r).2 (by omega))
      · exact Or.inr (by omega))
  have hv1 := X1 hv
  have htv : ∀ {v cs}, VSq hm D a (fun r => r = p ∨ r = L0 ∨ r = S0 ∨ r = elL ∨ r = elS') h1 v cs → 1 ≤ (ah_t h1 v).1 ∧ (ah_t h1 v).1 ≤ 24 := fun hq => by
    obtain ⟨i, j, q, _⟩ := hq
    have := q.2.1; omega
  simp (disch := omega) only [b_155_0, ↓w_aload_n_0, ↓w_iload_n_1, ↓w_aload_n_2, ↓w_pop_i, ↓w_pop_a, ↓w_getfield, ↓w_return, ↓w_invokevirtual_1, ↓w_invokeinterface_1, stw_0, stw_i, stw_l, stw_r, ofK0, ofK1, ofK2, lst1, lst2, lkill, kont_none, kont_some, Int.reduceToNat, List.length_cons, List.length_nil, Nat.reduceAdd, Nat.reduceLeDiff, Nat.zero_le, true_and, and_true, if_true, if_false, ne_eq, Int.reduceEq, Int.reduceNeg, not_false_eq_true, not_true_eq_false, ↓reduceIte, Int.reduceLT, Int.reduceLE, and_self, or_true, true_or, or_false, false_or, false_and, and_false, ah_t_w, ah_m_w, ah_n_w, lst1_0, List.tail_cons, w32_i, zbd, lst2_0, t1a, m0', tl1']
  refine c_42 (d := d) hF1 hL1 (by omega) (fun i i0 i1 => by
      rw [elM]
      obtain ⟨u, hu⟩ : ∃ u : Nat, i = u := ⟨i.toNat, by omega⟩
      subst hu
      exact htv (X1 (c9 u (by omega)).2)) (htv hv1) (fun h2 capL' elL' hL2 ei en hE2 hel2 n2 s2 hcp2 => ?_)
  have hF2 := FRE_ext hF1 hE2
  have pN1 : p < ah_n h1 := by have := hE1.1.1; omega
  have sN1 : S0 < ah_n h1 := by have := hE1.1.1; omega
  have te1' : (ah_t h1 elL).1 = -10 := by rw [hL1.2.1]
  have tf1' : (ah_t h1 elS').1 = -2 := by rw [hs1.2.1]
  have ts1' : (ah_t h1 S0).1 = 11 := by rw [hs1.1.1]
  have nfl : elS' ≠ L0 := tne tf1' tl1' (by decide)
  have nfe : elS' ≠ elL := tne tf1' te1' (by decide)
  have t2 : ah_t h2 p = (15, 0) := by rw [hE2.2.1 _ (Or.inl pN1)]; exact t1'
  have m02 : ah_m h2 p 0 = L0 := by rw [hE2.2.2 _ _ pN1 (by omega)]; exact m0'
  have m12 : ah_m h2 p 1 = S0 := by rw [hE2.2.2 _ _ pN1 (by omega)]; exact m1'
  have hs2 : SBD h2 S0 (its.map Prod.fst ++ [c]) capS' elS' := SBD_ext hs1 hF1 hE2 (fun i => ⟨by omega, by omega⟩)
  have X2 : ∀ {v cs}, VSq hm D a (fun r => r = p ∨ r = L0 ∨ r = S0 ∨ r = elL ∨ r = elS') h1 v cs → VSq hm D a (chX h2 p elL' elS') h2 v cs := fun hq => VSq_ext hq hE2 (fun r i w => by omega) (fun r x => by
    unfold chX at x
    rw [m02, m12] at x
    rcases x with x | x | x | x | x
    · exact Or.inl (by omega)
    · exact Or.inl (by omega)
    · exact Or.inl (by omega)
    · rcases hel2 with u | u
      · exact Or.inl (by omega)
      · exact Or.inr (by omega)
    · exact Or.inl (by omega))
  simp (disch := omega) only [b_155_0, ↓w_aload_n_0, ↓w_iload_n_1, ↓w_aload_n_2, ↓w_pop_i, ↓w_pop_a, ↓w_getfield, ↓w_return, ↓w_invokevirtual_1, ↓w_invokeinterface_1, stw_0, stw_i, stw_l, stw_r, ofK0, ofK1, ofK2, lst1, lst2, lkill, kont_none, kont_some, Int.reduceToNat, List.length_cons, List.length_nil, Nat.reduceAdd, Nat.reduceLeDiff, Nat.zero_le, true_and, and_true, if_true, if_false, ne_eq, Int.reduceEq, Int.reduceNeg, not_false_eq_true, not_true_eq_false, ↓reduceIte, Int.reduceLT, Int.reduceLE, and_self, or_true, true_or, or_false, false_or, false_and, and_false, ah_t_w, ah_m_w, ah_n_w, lst1_0, List.tail_cons, w32_i, zbd, lst2_0]
  have an : a ≤ ah_n h := by omega
  refine hQ h2 capL' elL' capS' elS' ⟨⟨t2, c2, c3⟩, ?_, ?_, ?_, ?_, ?_, fun i q => ?_⟩ (Ext_tr' (Ext_mono (fun r i w => (hX0 r).2 (by omega)) hE1) hE2 (fun r i w => Or.inl ((hX0 r).2 (by omega)))) (by omega) (by omega)
  · rw [m02]; simp only [List.length_append, List.length_singleton]
    rw [show ((its.length + 1 : Nat) : Int) = (its.length : Int) + 1 by omega]; exact hL2
  · rw [m12, List.map_append]; exact hs2
  · rw [m02, m12]
    refine ⟨c6.1, c6.2.1, ?_, ?_⟩
    · rcases hel2 with u | u
      · omega
      · have := hE1.1.1; omega
    · rcases hel1 with u | u
      · omega
      · omega
  · simp only [List.length_append, List.length_singleton]
    rcases hcp2 with u | u <;> omega
  · simp only [List.length_append, List.length_singleton]
    rw [lm] at hcp1
    rcases hcp1 with u | u <;> omega
  · simp only [List.length_append, List.length_singleton] at q
    rw [getD_app]
    by_cases e : i = its.length
    · rw [if_pos e, e, en]
      exact ⟨hc, X2 hv1⟩
    · rw [if_neg e, if_pos (by omega), ei i (by omega) (by omega), elM]
      exact ⟨(c9 i (by omega)).1, X2 (X1 (c9 i (by omega)).2)⟩
end D2
