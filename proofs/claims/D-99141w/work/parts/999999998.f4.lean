/-! ===== X: ask: one man ===== -/
def Wak (r i : Int) : Prop := Wqs r i ∨ r = 16 ∨ (r = 1 ∧ (i = 2 ∨ i = 3 ∨ i = 4 ∨ i = 22))
section F4
variable {W' W : Int → Int → Prop} {d : Nat} {h h' h1 h2 h0 : AH} {Q : QQ} {x y z k s b v n p q r o i N lo hi A B E kd mt rs V m f : Int} {a : Int × Bool} {S T T' : Int → Int → Int} {t nw nw' pt of tp : Int → Int} {tl : ALoc} {w u l cs c c1 c2 : List Int} {hm : Bool} {D : Nat} {its : List (List Int)}
set_option maxHeartbeats 4000000
theorem Wak_x : ∀ r i, Wak r i → (¬ fix r i ∧ ¬ BRr r ∧ ¬ (r = 1 ∧ i = 0)) ∧ r < 1121 ∧ (r < 25 ∨ (115 ≤ r ∧ r ≤ 119) ∨ 1020 ≤ r) := fun r i w => by unfold Wak Wqs Wrd at w; unfold fix isS isV BRr; omega
theorem QSi_off (hq : QSi h p kd c) (hO : Off W h h') (hW : ∀ r i, W r i → r < 1121 ∨ (r = p ∧ (i = 3 ∨ i = 4))) : QSi h' p kd c := by
  obtain ⟨a1, a2, a3, a4, i, j, a5, a6⟩ := hq
  have em : ∀ x, x ≠ 3 → x ≠ 4 → ah_m h' p x = ah_m h p x := fun x x3 x4 => hO.2 _ _ (fun w => by have := hW _ _ w; omega)
  have ag : AgI i j h h' := fun r r0 r1 => ⟨by rw [Off_t hO], fun x => hO.2 _ _ (fun w => by have := hW _ _ w; omega)⟩
  have nn := Off_n hO
  refine ⟨by rw [Off_t hO]; exact a1, by omega, by rw [em 0 (by decide) (by decide)]; exact a3, a4, i, j, a5, ?_⟩
  rw [em 1 (by decide) (by decide), em 2 (by decide) (by decide)]
  rcases a6 with q | q
  · exact Or.inl ⟨q.1, TSi_ext q.2 ag (by omega)⟩
  · exact Or.inr ⟨q.1, VSi_ext q.2 ag (by omega)⟩
/-- one man -/
theorem c_141a (hA0 : XA T nw h0) (hF : FRE h0) (hN : NV T nw) (h40 : nw 24 ≤ 40) (hE : Ext Wak h0 h) (e22 : ah_m h 1 22 = m) (hm : 0 ≤ m ∧ m < T 1072 4) (ha : nw (2 + 2 * m) ≠ -1) {l1 : Option AV} (hq : QSi h q kd c) (hq0 : ah_n h0 ≤ q) (m4 : ah_m h q 4 = mt) (m3 : ah_m h q 3 = rs) (hr : QRl kd mt rs a) (hab : -100000000 ≤ a.1 ∧ a.1 ≤ 100000000)
    (hQ : ∀ h' mt' rs', Ext Wak h0 h' → ah_n h' = ah_n h → ah_s h' = ah_s h → (∀ i, ah_m h' 1 i = ah_m h 1 i) → QSi h' q kd c → ah_m h' q 3 = rs' → ah_m h' q 4 = mt' → QRl kd mt' rs' (zqf kd (zqv T nw c m) m a) → wpB (d + 50) 141 274 [some (.inr (.inr 1)), l1, some (.inr (.inr q))] [] h' Q) : wpB (d + 50) 141 94 [some (.inr (.inr 1)), l1, some (.inr (.inr q))] [] h Q := by
  have n0 := hF.1
  have W16 : ∀ x, Wak 16 x := fun x => Or.inr (Or.inl rfl)
  have hA := XA_ext hA0 hF h40 hE Wak_x
  have hK := hA.1
  have hS := hA.2.1
  have hC := hK.2.2.2.2.2.1; have hR := hK.2.2.2.2.2.2.1
  have h8 := hK.2.2.2.1
  have g0 := hm.1
  have g1 := hm.2
  have m8 : m < 8 := by omega
  have ep := sp hS g0 g1
  have hb := zpl5_b hN hC.2 hR.2 g0 g1
  rcases hb with qq | qq
  · exact absurd qq.2 ha
  have q2 := tm5 qq.1.1; have q3 := qq.2.1
  have q4 := td5 qq.1.1; have q5 := qq.2.2.1
  have t16 : ah_t h 16 = (-4, 11) := hK.1.1 (16, -4, 11) (by decide)
  have t16a : (ah_t h 16).1 = -4 := by rw [t16]
  have t16b : (ah_t h 16).2 = 11 := by rw [t16]
  have t26a : (ah_t h 26).1 = -1 := s_3a hK hS
  have t26b : (ah_t h 26).2 = 8 := s_3b hK hS
  have x15 := xf_15_0 hK
  have ep' : ah_m h 26 m = zpl5 nw m := ep
  simp (disch := omega) only [q_141_94, b_141_94, ↓w_iconst, ↓w_bipush, ↓w_aload_n_0, ↓w_idiv, ↓w_irem, ↓w_i2l, ↓w_getfield, ↓w_iaload, ↓w_lastore, ↓w_nop, stw_0, stw_i, stw_l, stw_r, ofK0, ofK1, ofK2, lst1, lst2, lkill, kont_none, kont_some, Int.reduceToNat, List.length_cons, List.length_nil, Nat.reduceAdd, Nat.reduceLeDiff, Nat.zero_le, true_and, and_true, if_true, if_false, ne_eq, Int.reduceEq, Int.reduceNeg, not_false_eq_true, not_true_eq_false, ↓reduceIte, Int.reduceLT, Int.reduceLE, and_self, or_true, true_or, or_false, false_or, false_and, and_false, ah_t_w, ah_m_w, ah_n_w, lst1_0, List.tail_cons, w32_i, zbd, lst2_0, xt_1a hK, xf_1_7 hK, xt_15a hK, xf_1_12 hK, s_t hK hS, s_0 hS, s_3 hK hS, s_3a hK hS, s_3b hK hS, e22, ep', g0, m8, q2, q3, q4, q5, x15, t16a, t16b, t26a, t26b, Int.reduceAdd]
  have hO1 : Off (fun r i => r = 16) h (ah_w (ah_w (ah_w (ah_w h 16 3 (nw 0)) 16 4 m) 16 5 (nw (2 + 2 * m))) 16 6 (nw (3 + 2 * m))) := Off_w (Off_w (Off_w (Off_w Off_rfl rfl) rfl) rfl) rfl
  have r3 : ah_m (ah_w (ah_w (ah_w (ah_w h 16 3 (nw 0)) 16 4 m) 16 5 (nw (2 + 2 * m))) 16 6 (nw (3 + 2 * m))) 16 3 = nw 0 := by rw [ah_m_w, if_neg (by omega), ah_m_w, if_neg (by omega), ah_m_w, if_neg (by omega), ah_m_w, if_pos ⟨rfl, rfl⟩]
  have r4 : ah_m (ah_w (ah_w (ah_w (ah_w h 16 3 (nw 0)) 16 4 m) 16 5 (nw (2 + 2 * m))) 16 6 (nw (3 + 2 * m))) 16 4 = m := by rw [ah_m_w, if_neg (by omega), ah_m_w, if_neg (by omega), ah_m_w, if_pos ⟨rfl, rfl⟩]
  have r5 : ah_m (ah_w (ah_w (ah_w (ah_w h 16 3 (nw 0)) 16 4 m) 16 5 (nw (2 + 2 * m))) 16 6 (nw (3 + 2 * m))) 16 5 = nw (2 + 2 * m) := by rw [ah_m_w, if_neg (by omega), ah_m_w, if_pos ⟨rfl, rfl⟩]
  have r6 : ah_m (ah_w (ah_w (ah_w (ah_w h 16 3 (nw 0)) 16 4 m) 16 5 (nw (2 + 2 * m))) 16 6 (nw (3 + 2 * m))) 16 6 = nw (3 + 2 * m) := by rw [ah_m_w, if_pos ⟨rfl, rfl⟩]
  generalize ah_w (ah_w (ah_w (ah_w h 16 3 (nw 0)) 16 4 m) 16 5 (nw (2 + 2 * m))) 16 6 (nw (3 + 2 * m)) = g1' at *
  have wk : ∀ r i : Int, r = 16 → Wak r i := fun r i e => Or.inr (Or.inl e)
  -- what holds after writes to row 16
  have aft : ∀ g : AH, Off (fun r i => r = 16) h g → XG T g ∧ XS T nw 25 g ∧ ((ah_t g 16).1 = -4 ∧ (ah_t g 16).2 = 11) ∧ ah_m g 1 22 = m := by
    intro g hO
    have hA := XA_ext hA0 hF h40 (Ext_tr hE (Ext_off (Off_mono wk hO))) Wak_x
    exact ⟨hA.1, hA.2.1, by rw [Off_t hO]; exact ⟨t16a, t16b⟩, by rw [hO.2 _ _ (by omega)]; exact e22⟩
  obtain ⟨hK1, hS1, ⟨ta1, tb1⟩, e1⟩ := aft g1' hO1
  have x151 := xf_15_0 hK1
  simp (disch := omega) only [q_141_181, b_141_181, ↓w_bipush, ↓w_aload_n_0, ↓w_aload_n_2, ↓w_i2l, ↓w_getfield, ↓w_lastore, ↓w_nop, ↓w_invokevirtual_1, ↓w_invokevirtual_2, stw_0, stw_i, stw_l, stw_r, ofK0, ofK1, ofK2, lst1, lst2, lkill, kont_none, kont_some, Int.reduceToNat, List.length_cons, List.length_nil, Nat.reduceAdd, Nat.reduceLeDiff, Nat.zero_le, true_and, and_true, if_true, if_false, ne_eq, Int.reduceEq, Int.reduceNeg, not_false_eq_true, not_true_eq_false, ↓reduceIte, Int.reduceLT, Int.reduceLE, and_self, or_true, true_or, or_false, false_or, false_and, and_false, ah_t_w, ah_m_w, ah_n_w, lst1_0, List.tail_cons, w32_i, zbd, lst2_0, xt_1a hK1, xf_1_7 hK1, xt_15a hK1, xf_1_12 hK1, s_t hK1 hS1, e1, ta1, tb1, x151, c_83 hK1 g0 g1, ma_t hK1 g0 g1, ma_2 hK1 g0 g1]
  have hO2 : Off (fun r i => r = 16) h (ah_w g1' 16 7 (zs T m)) := Off_w hO1 rfl
  have r7 : ah_m (ah_w g1' 16 7 (zs T m)) 16 7 = zs T m := by rw [ah_m_w, if_pos ⟨rfl, rfl⟩]
  have u2 : ∀ x, x ≠ 7 → ah_m (ah_w g1' 16 7 (zs T m)) 16 x = ah_m g1' 16 x := fun x e => by rw [ah_m_w, if_neg (by omega)]
  generalize ah_w g1' 16 7 (zs T m) = g2 at *
  obtain ⟨hK2, hS2, ⟨ta2, tb2⟩, e2⟩ := aft g2 hO2
  have x152 := xf_15_0 hK2
  simp (disch := omega) only [b_141_181, ↓w_bipush, ↓w_aload_n_0, ↓w_aload_n_2, ↓w_i2l, ↓w_getfield, ↓w_lastore, ↓w_nop, ↓w_invokevirtual_1, ↓w_invokevirtual_2, stw_0, stw_i, stw_l, stw_r, ofK0, ofK1, ofK2, lst1, lst2, lkill, kont_none, kont_some, Int.reduceToNat, List.length_cons, List.length_nil, Nat.reduceAdd, Nat.reduceLeDiff, Nat.zero_le, true_and, and_true, if_true, if_false, ne_eq, Int.reduceEq, Int.reduceNeg, not_false_eq_true, not_true_eq_false, ↓reduceIte, Int.reduceLT, Int.reduceLE, and_self, or_true, true_or, or_false, false_or, false_and, and_false, ah_t_w, ah_m_w, ah_n_w, lst1_0, List.tail_cons, w32_i, zbd, lst2_0, xt_1a hK2, xf_1_7 hK2, xt_15a hK2, xf_1_12 hK2, s_t hK2 hS2, e2, ta2, tb2, x152, c_82 hK2 g0 g1, km_t hK2 g0 g1, km_3 hK2 g0 g1]
  have hO3 : Off (fun r i => r = 16) h (ah_w g2 16 8 (zwo T m)) := Off_w hO2 rfl
  have r8 : ah_m (ah_w g2 16 8 (zwo T m)) 16 8 = zwo T m := by rw [ah_m_w, if_pos ⟨rfl, rfl⟩]
  have u3 : ∀ x, x ≠ 8 → ah_m (ah_w g2 16 8 (zwo T m)) 16 x = ah_m g2 16 x := fun x e => by rw [ah_m_w, if_neg (by omega)]
  generalize ah_w g2 16 8 (zwo T m) = g3 at *
  obtain ⟨hK3, hS3, ⟨ta3, tb3⟩, e3⟩ := aft g3 hO3
  have x153 := xf_15_0 hK3
  simp (disch := omega) only [b_141_181, ↓w_bipush, ↓w_aload_n_0, ↓w_aload_n_2, ↓w_i2l, ↓w_getfield, ↓w_lastore, ↓w_nop, ↓w_invokevirtual_1, ↓w_invokevirtual_2, stw_0, stw_i, stw_l, stw_r, ofK0, ofK1, ofK2, lst1, lst2, lkill, kont_none, kont_some, Int.reduceToNat, List.length_cons, List.length_nil, Nat.reduceAdd, Nat.reduceLeDiff, Nat.zero_le, true_and, and_true, if_true, if_false, ne_eq, Int.reduceEq, Int.reduceNeg, not_false_eq_true, not_true_eq_false, ↓reduceIte, Int.reduceLT, Int.reduceLE, and_self, or_true, true_or, or_false, false_or, false_and, and_false, ah_t_w, ah_m_w, ah_n_w, lst1_0, List.tail_cons, w32_i, zbd, lst2_0, xt_1a hK3, xf_1_7 hK3, xt_15a hK3, xf_1_12 hK3, s_t hK3 hS3, e3, ta3, tb3, x153, c_82 hK3 g0 g1, km_t hK3 g0 g1, km_2 hK3 g0 g1]
  have hO4 : Off (fun r i => r = 16) h (ah_w g3 16 9 (T 1075 (21 + 4 * T 1076 (16 + 2 * m)))) := Off_w hO3 rfl
  have r9 : ah_m (ah_w g3 16 9 (T 1075 (21 + 4 * T 1076 (16 + 2 * m)))) 16 9 = T 1075 (21 + 4 * T 1076 (16 + 2 * m)) := by rw [ah_m_w, if_pos ⟨rfl, rfl⟩]
  have u4 : ∀ x, x ≠ 9 → ah_m (ah_w g3 16 9 (T 1075 (21 + 4 * T 1076 (16 + 2 * m)))) 16 x = ah_m g3 16 x := fun x e => by rw [ah_m_w, if_neg (by omega)]
  generalize ah_w g3 16 9 (T 1075 (21 + 4 * T 1076 (16 + 2 * m))) = g4 at *
  obtain ⟨hK4, hS4, ⟨ta4, tb4⟩, e4⟩ := aft g4 hO4
  have x154 := xf_15_0 hK4
  simp (disch := omega) only [b_141_181, ↓w_bipush, ↓w_aload_n_0, ↓w_aload_n_2, ↓w_i2l, ↓w_getfield, ↓w_lastore, ↓w_nop, ↓w_invokevirtual_1, ↓w_invokevirtual_2, stw_0, stw_i, stw_l, stw_r, ofK0, ofK1, ofK2, lst1, lst2, lkill, kont_none, kont_some, Int.reduceToNat, List.length_cons, List.length_nil, Nat.reduceAdd, Nat.reduceLeDiff, Nat.zero_le, true_and, and_true, if_true, if_false, ne_eq, Int.reduceEq, Int.reduceNeg, not_false_eq_true, not_true_eq_false, ↓reduceIte, Int.reduceLT, Int.reduceLE, and_self, or_true, true_or, or_false, false_or, false_and, and_false, ah_t_w, ah_m_w, ah_n_w, lst1_0, List.tail_cons, w32_i, zbd, lst2_0, xt_1a hK4, xf_1_7 hK4, xt_15a hK4, xf_1_12 hK4, s_t hK4 hS4, e4, ta4, tb4, x154, c_219 hK4 hS4 hN g0 g1]
  have hO5 : Off (fun r i => r = 16) h (ah_w g4 16 10 ((zmk T nw m (zP T) 0).length : Int)) := Off_w hO4 rfl
  have r10 : ah_m (ah_w g4 16 10 ((zmk T nw m (zP T) 0).length : Int)) 16 10 = (zmk T nw m (zP T) 0).length := by rw [ah_m_w, if_pos ⟨rfl, rfl⟩]
  have u5 : ∀ x, x ≠ 10 → ah_m (ah_w g4 16 10 ((zmk T nw m (zP T) 0).length : Int)) 16 x = ah_m g4 16 x := fun x e => by rw [ah_m_w, if_neg (by omega)]
  generalize ah_w g4 16 10 ((zmk T nw m (zP T) 0).length : Int) = g5 at *
  obtain ⟨hK5, hS5, ⟨ta5, tb5⟩, e5⟩ := aft g5 hO5
  have x155 := xf_15_0 hK5
  have hq5 : QSi g5 q kd c := QSi_off hq hO5 (fun r i w => Or.inl (by omega))
  have tq : (ah_t g5 q).1 = 20 := by rw [hq5.1]
  have ev : EV false (zpq T nw m) (zoq T nw m) g5 := by
    have t15 : (ah_t g5 15).1 = 6 := congrArg Prod.fst (hK5.1.1 (15, 6, 0) (by decide))
    refine ⟨⟨t15, x155, hK5.1.1 (16, -4, 11) (by decide)⟩, fun w w0 w1 w2 => ?_, fun _ => ⟨congrArg Prod.fst (hK5.1.1 (1, 1, 0) (by decide)), fun d x Q x0 x1 hQ => (c_120 hK5 hS5 hN e5 hm ha ⟨x0, x1⟩).2 hQ⟩⟩
    show ah_m g5 16 w = _
    simp at w2
    have hw : w = 3 ∨ w = 4 ∨ w = 5 ∨ w = 6 ∨ w = 7 ∨ w = 8 ∨ w = 9 ∨ w = 10 := by omega
    rcases hw with e | e | e | e | e | e | e | e <;> subst e
    · rw [u5 _ (by decide), u4 _ (by decide), u3 _ (by decide), u2 _ (by decide), r3]; rfl
    · rw [u5 _ (by decide), u4 _ (by decide), u3 _ (by decide), u2 _ (by decide), r4]; rfl
    · rw [u5 _ (by decide), u4 _ (by decide), u3 _ (by decide), u2 _ (by decide), r5]; rfl
    · rw [u5 _ (by decide), u4 _ (by decide), u3 _ (by decide), u2 _ (by decide), r6]; rfl
    · rw [u5 _ (by decide), u4 _ (by decide), u3 _ (by decide), r7]; rfl
    · rw [u5 _ (by decide), u4 _ (by decide), r8]; rfl
    · rw [u5 _ (by decide), r9]; rfl
    · rw [r10]; rfl
  have tq4 : (ah_t g4 q).1 = 20 := by rw [Off_t hO4, hq.1]
  refine ⟨tq4, ?_⟩
  refine c_167 (d := d + 4) hq5 ev (by rw [hO5.2 _ _ (by omega)]; exact m4) (by rw [hO5.2 _ _ (by omega)]; exact m3) hr (by omega) hab (fun h' mt' rs' hO' q3' q4' hr' => ?_)
  simp (disch := omega) only [b_141_181, ↓w_bipush, ↓w_aload_n_0, ↓w_aload_n_2, ↓w_i2l, ↓w_getfield, ↓w_lastore, ↓w_nop, ↓w_invokevirtual_1, ↓w_invokevirtual_2, stw_0, stw_i, stw_l, stw_r, ofK0, ofK1, ofK2, lst1, lst2, lkill, kont_none, kont_some, Int.reduceToNat, List.length_cons, List.length_nil, Nat.reduceAdd, Nat.reduceLeDiff, Nat.zero_le, true_and, and_true, if_true, if_false, ne_eq, Int.reduceEq, Int.reduceNeg, not_false_eq_true, not_true_eq_false, ↓reduceIte, Int.reduceLT, Int.reduceLE, and_self, or_true, true_or, or_false, false_or, false_and, and_false, ah_t_w, ah_m_w, ah_n_w, lst1_0, List.tail_cons, w32_i, zbd, lst2_0]
  have nn5 := Off_n hO5
  have ns5 := Off_s hO5
  have nn' := Off_n hO'
  have ns' := Off_s hO'
  refine hQ h' mt' rs' (Ext_tr' (Ext_tr hE (Ext_off (Off_mono wk hO5))) (Ext_off hO') (fun r i w => Or.inr (by omega))) (by omega) (by omega) (fun i => by rw [hO'.2 _ _ (by omega), hO5.2 _ _ (by omega)]) (QSi_off hq5 hO' (fun r i w => Or.inr w)) q3' q4' hr'
end F4
