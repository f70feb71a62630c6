/-! ===== X's reader: parts of a value ===== -/
section D8
variable {W' : Int → Int → Prop} {d : Nat} {h h' h1 h2 h0 : AH} {Q : QQ} {x y z k s a b c v n p q r o i N lo hi A B E F cap el sp dp capL elL capS elS l' m : Int} {S T T' : Int → Int → Int} {t nw nw' pt of tp : Int → Int} {tl : ALoc} {w W V l cs c1 c2 : List Int} {hm : Bool} {D f u : Nat} {its : List (Int × List Int)}
set_option maxHeartbeats 4000000
theorem zwq_inj : ∀ (W V : List Int) (k : Int), W.length = V.length → zwq t k W = true → zwq t k V = true → W = V := by
  intro W
  induction W with
  | nil => intro V k e _ _; cases V with
    | nil => rfl
    | cons a V => simp at e
  | cons c W ih =>
    intro V k e h1 h2
    cases V with
    | nil => simp at e
    | cons a V =>
      simp only [zwq] at h1 h2
      split at h1
      · rename_i e1
        split at h2
        · rename_i e2
          rw [ih V (k + 1) (by simpa using e) h1 h2]
          rw [show c = a by omega]
        · cases h2
      · cases h1
theorem zhw_inj (h1 : zhw t n k W = true) (h2 : zhw t n k V = true) : W = V := by
  unfold zhw at h1 h2
  simp only [Bool.and_eq_true, decide_eq_true_eq] at h1 h2
  exact zwq_inj W V k (by omega) h1.2.2 h2.2.2
/-- how far: of what follows -/
theorem c_193 (hs : CEx false t n f 2 190 10 24 400 10 100) (u1 : 1 ≤ u) (u7 : u ≤ 7) (hR : RX t n k h) (e3 : ah_m h 11 3 = F) (e4 : ah_m h 11 4 = 7 - (u : Int)) (e5 : ah_m h 11 5 = zctxt false) (hf : 6 * (n - k) + 1 ≤ f)
    (hQ0 : ∀ h' k' a b, (u = 1 ∧ a = 4 ∧ b = F) ∨ (u ≠ 1 ∧ zex false t n f 2 k (7 - (u : Int) + 1) = .inl (a, b)) → RX t n k' h' → Ext Wrd h h' → BXx a b h' → CO h h' (60 * (n - k) + 11) (1000 * (n - k) + 103) → Q (.inr 12) h')
    (hQ1 : ∀ h' p k1 c, u ≠ 1 → zex false t n f 2 k (7 - (u : Int) + 1) = .inr (k1, c) → RX t n k1 h' → Ext Wrd h h' → ah_m h' 11 4 = 7 - (u : Int) → VSi false (10 + 4 * u) (ah_n h) (ah_n h') h' p (c ++ [60]) → CO h h' (60 * (k1 - k) - 23) (1000 * (k1 - k) - 397) → Q (.inl (some (.inr (.inr p)))) h') : wpC (d + 9 + 5 * u) 193 [.inr (.inr 11), .inl 0] h Q := by
  have t11 := r_11 hR.1
  have hx := hR.2.2.2.2.2
  have n16 := hR.2.2.2.2.1.1.2
  have n0 := hR.1.2.1.1
  obtain ⟨e, he⟩ : ∃ e : Nat, d + 9 + 5 * u = e + 9 := ⟨d + 5 * u, by omega⟩
  rw [he]
  rw [wpC_B]; refine ⟨⟨Nat.zero_lt_succ _, Nat.le_of_ble_eq_true rfl⟩, ?_⟩; simp only [lent]
  simp (disch := omega) only [q_193_0, b_193_0, ↓w_iconst, ↓w_aload_n_0, ↓w_iload_n_1, ↓w_aload_n_2, ↓w_astore_n_2, ↓w_dup_i, ↓w_dup_a, ↓w_isub, ↓w_getfield, ↓w_putfield_0, ↓w_new, ↓w_areturn, ↓w_invokevirtual_0, ↓w_invokevirtual_1, ↓w_invokespecial_3, stw_0, stw_i, stw_l, stw_r, ofK0, ofK1, ofK2, lst1, lst2, lkill, kont_none, kont_some, Int.reduceToNat, List.length_cons, List.length_nil, Nat.reduceAdd, Nat.reduceLeDiff, Nat.zero_le, true_and, and_true, if_true, if_false, ne_eq, Int.reduceEq, Int.reduceNeg, not_false_eq_true, not_true_eq_false, ↓reduceIte, Int.reduceLT, Int.reduceLE, and_self, or_true, true_or, or_false, false_or, false_and, and_false, ah_t_w, ah_m_w, ah_n_w, lst1_0, List.tail_cons, w32_i, zbd, lst2_0, t11, e3]
  refine c_192 (d := e + 6) hR e4 (by omega) (fun h2 eo hR2 hO2 hb => ?_) (fun h2 eo hR2 hO2 e42 => ?_)
  · rw [kont_0]
    refine hQ0 h2 _ 4 F (Or.inl ⟨by omega, rfl, rfl⟩) hR2 (Ext_off (Off_mono W12_d hO2)) hb ?_
    have := Off_n hO2; have := Off_s hO2; unfold CO; omega
  have t2 := r_11 hR2.1
  have e7 := r_11_7 hR2.1
  have n2 := Off_n hO2
  have s2 := Off_s hO2
  have hE2 : Ext Wrd h h2 := Ext_off (Off_mono (fun r i w => by unfold Wrd; omega) hO2)
  have e52 : ah_m h2 11 5 = zctxt false := by rw [hO2.2 _ _ (by omega)]; exact e5
  obtain ⟨u', hu⟩ : ∃ u' : Nat, u = u' + 1 := ⟨u - 1, by omega⟩
  have eou : 7 - (u : Int) + 1 = 7 - (u' : Int) := by omega
  rw [eou] at hQ0 hQ1
  have hR6 : RX t n k (ah_new h2 (19, 0) ((3 : Nat) : Int)) := RX_new hR2 (by omega)
  have hE6 : Ext Wrd h2 (ah_new h2 (19, 0) ((3 : Nat) : Int)) := Ext_new Ext_rfl (by omega)
  have m6 : ∀ i, ah_m (ah_new h2 (19, 0) ((3 : Nat) : Int)) 11 i = ah_m h2 11 i := fun i => by rw [ah_m_new, if_neg (by omega)]
  have tp6 : ah_t (ah_new h2 (19, 0) ((3 : Nat) : Int)) (ah_n h2) = (19, 0) := by rw [ah_t_new, if_pos rfl]
  have n6 : ah_n (ah_new h2 (19, 0) ((3 : Nat) : Int)) = ah_n h2 + 1 := ah_n_new
  have s6 : ah_s (ah_new h2 (19, 0) ((3 : Nat) : Int)) = ah_s h2 + 3 := by rw [ah_s_new]; rfl
  have t6 := r_11 hR6.1
  have m67 : ah_m (ah_new h2 (19, 0) ((3 : Nat) : Int)) 11 7 = 1 := by rw [m6]; exact e7
  simp (disch := omega) only [b_193_0, ↓w_iconst, ↓w_aload_n_0, ↓w_iload_n_1, ↓w_aload_n_2, ↓w_astore_n_2, ↓w_dup_i, ↓w_dup_a, ↓w_isub, ↓w_getfield, ↓w_putfield_0, ↓w_new, ↓w_areturn, ↓w_invokevirtual_0, ↓w_invokevirtual_1, ↓w_invokespecial_3, stw_0, stw_i, stw_l, stw_r, ofK0, ofK1, ofK2, lst1, lst2, lkill, kont_none, kont_some, Int.reduceToNat, List.length_cons, List.length_nil, Nat.reduceAdd, Nat.reduceLeDiff, Nat.zero_le, true_and, and_true, if_true, if_false, ne_eq, Int.reduceEq, Int.reduceNeg, not_false_eq_true, not_true_eq_false, ↓reduceIte, Int.reduceLT, Int.reduceLE, and_self, or_true, true_or, or_false, false_or, false_and, and_false, ah_t_w, ah_m_w, ah_n_w, lst1_0, List.tail_cons, w32_i, zbd, lst2_0, t2, e7, t6, m67]
  generalize ah_new h2 (19, 0) ((3 : Nat) : Int) = h6 at *
  refine wpC_deep (hs u' d k h6 _ (by omega) (by omega) hR6 (by rw [m6, e42]; omega) (by rw [m6]; exact e52) (by simp [zrk]; omega) (fun h7 k' a b ez7 hR7 hE7 hb co7 => ?_) (fun h7 p2 k2 c2 ez7 hR7 hE7 e47 hv2 co7 => ?_)) (by omega)
  · rw [kont_0]
    refine hQ0 h7 _ a b (Or.inr ⟨by omega, ez7⟩) hR7 (Ext_tr hE2 (Ext_tr hE6 hE7)) hb ?_
    unfold CO at co7 ⊢; omega
  unfold CO at co7
  have n7 := hE7.1
  have tp7 : ah_t h7 (ah_n h2) = (19, 0) := by rw [hE7.2.1 _ (Or.inl (by omega))]; exact tp6
  have tp7' : (ah_t h7 (ah_n h2)).1 = 19 := by rw [tp7]
  have hE8 : Ext (fun r i => r = ah_n h2) h7 (ah_w (ah_w (ah_w h7 (ah_n h2) 2 1) (ah_n h2) 0 0) (ah_n h2) 1 p2) := Ext_w (Ext_w (Ext_w Ext_rfl (Or.inl rfl)) (Or.inl rfl)) (Or.inl rfl)
  have q0 : ah_m (ah_w (ah_w (ah_w h7 (ah_n h2) 2 1) (ah_n h2) 0 0) (ah_n h2) 1 p2) (ah_n h2) 0 = 0 := by rw [ah_m_w, if_neg (by omega), ah_m_w, if_pos ⟨rfl, rfl⟩]
  have q2 : ah_m (ah_w (ah_w (ah_w h7 (ah_n h2) 2 1) (ah_n h2) 0 0) (ah_n h2) 1 p2) (ah_n h2) 2 = 1 := by rw [ah_m_w, if_neg (by omega), ah_m_w, if_neg (by omega), ah_m_w, if_pos ⟨rfl, rfl⟩]
  have q1 : ah_m (ah_w (ah_w (ah_w h7 (ah_n h2) 2 1) (ah_n h2) 0 0) (ah_n h2) 1 p2) (ah_n h2) 1 = p2 := by rw [ah_m_w, if_pos ⟨rfl, rfl⟩]
  have n8 : ah_n (ah_w (ah_w (ah_w h7 (ah_n h2) 2 1) (ah_n h2) 0 0) (ah_n h2) 1 p2) = ah_n h7 := rfl
  have s8 : ah_s (ah_w (ah_w (ah_w h7 (ah_n h2) 2 1) (ah_n h2) 0 0) (ah_n h2) 1 p2) = ah_s h7 := rfl
  have tp8 : ah_t (ah_w (ah_w (ah_w h7 (ah_n h2) 2 1) (ah_n h2) 0 0) (ah_n h2) 1 p2) (ah_n h2) = (19, 0) := tp7
  have hr8 := RX_hi hR7 hE8 (fun r i w => by omega)
  have t8 := r_11 hr8.1.1
  have t7 := r_11 hR7.1
  have e48 := (hr8.2 4).trans e47
  simp (disch := omega) only [b_193_0, ↓w_iconst, ↓w_aload_n_0, ↓w_iload_n_1, ↓w_aload_n_2, ↓w_astore_n_2, ↓w_dup_i, ↓w_dup_a, ↓w_isub, ↓w_getfield, ↓w_putfield_0, ↓w_new, ↓w_areturn, ↓w_invokevirtual_0, ↓w_invokevirtual_1, ↓w_invokespecial_3, stw_0, stw_i, stw_l, stw_r, ofK0, ofK1, ofK2, lst1, lst2, lkill, kont_none, kont_some, Int.reduceToNat, List.length_cons, List.length_nil, Nat.reduceAdd, Nat.reduceLeDiff, Nat.zero_le, true_and, and_true, if_true, if_false, ne_eq, Int.reduceEq, Int.reduceNeg, not_false_eq_true, not_true_eq_false, ↓reduceIte, Int.reduceLT, Int.reduceLE, and_self, or_true, true_or, or_false, false_or, false_and, and_false, ah_t_w, ah_m_w, ah_n_w, lst1_0, List.tail_cons, w32_i, zbd, lst2_0, tp7', c_164 (d := e + 6) tp7' (by omega), t8, t7, e48]
  generalize ah_w (ah_w (ah_w h7 (ah_n h2) 2 1) (ah_n h2) 0 0) (ah_n h2) 1 p2 = h8 at *
  have h9 := RX_fr hr8.1 (i := 4) (v := 7 - (u' : Int) - 1) (by omega)
  have hE7' : Ext Wrd h h7 := Ext_tr hE2 (Ext_tr hE6 hE7)
  have hE8' : Ext Wrd h h8 := Ext_tr' hE7' hE8 (fun r i w => Or.inr (by omega))
  have v2 : VSi false (10 + 4 * u') (ah_n h6) (ah_n h7) h8 p2 c2 := VSi_ext hv2 (fun r r0 r1 => ⟨hE8.2.1 r (Or.inl (by omega)), fun i => hE8.2.2 r i (by omega) (by omega)⟩) hE8.1.1
  have vp := VSi_looked (a := ah_n h) (b := ah_n h8) tp8 q0 q1 q2 v2 (by omega) (by omega) (by omega)
  have hE9 : Ext Wrd h8 (ah_w h8 11 4 (7 - (u' : Int) - 1)) := Ext_off (Off_mono (fun r i w => by unfold Wrd; omega) h9.2)
  refine hQ1 _ (ah_n h2) k2 c2 (by omega) ez7 h9.1 (Ext_tr hE8' hE9) (by rw [ah_m_w, if_pos ⟨rfl, rfl⟩]; omega) (VSi_deep (VSi_lo vp hE9) (by omega)) ?_
  unfold CO; rw [ah_n_w, ah_s_w]; omega
end D8
