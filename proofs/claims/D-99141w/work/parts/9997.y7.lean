/-! ===== X: a day passes (passes) ===== -/
section Y7
variable {W : Int → Int → Prop} {d : Nat} {h h' h1 h0 : AH} {Q : QQ} {x y z m k s l w a b v n p r o i f : Int} {S T T' : Int → Int → Int} {t nw nw' pt of : Int → Int} {tl : ALoc} {c : Int × Int × Int}
set_option maxHeartbeats 4000000
theorem Wps_ok (hZ : isS s) : ∀ r i, Wps s r i → ¬ fix r i ∧ ¬ BRr r ∧ ¬ (r = 1 ∧ i = 0) := by
  intro r i w
  unfold Wps Wmv at w; unfold isS at hZ; unfold fix BRr isS isV
  omega
theorem Wps_H (hZ : isS s) : ∀ r i, Wps s r i → r < 1121 ∧ ¬ BRr r ∧ ¬ (r = 1 ∧ i = 0) := by
  intro r i w
  have := Wps_ok hZ r i w
  refine ⟨?_, this.2⟩
  unfold Wps Wmv at w; unfold isS at hZ
  omega
theorem ztk_b (hX : NX T nw) (hK : XG T h) (k0 : 0 ≤ k) (k1 : k < zP T) : 0 ≤ ztk T nw k ∧ ztk T nw k ≤ 99 := by
  obtain ⟨hh, hG⟩ := id hX
  have hb := @zat_b hh (k % T 1074 4) (k / T 1074 4) T nw hG
  unfold ztk
  split
  · omega
  · exact xwo_b hK (by omega) (by omega)
theorem zck_b : zck T nw m k = 0 ∨ zck T nw m k = 1 := by unfold zck zb; split <;> omega
theorem c_230 (hK : XG T h) (hS : XS T nw s h) (hX : NX T nw) (hH : XH T h) (hF : FV nw) (hd : nw 0 < 5000) (hc : zcpk T nw c)
    (hQ : ∀ h', XG T h' → XS T (zdy T nw 0 c) s h' → XH T h' → Off (Wps s) h h' → (ah_m h' s 8 = (if c.1 = -1 then -1 else zp5 T c.2.2) ∧ (c.1 ≠ -1 → ah_m h' s 9 = ztk T nw c.2.2 ∧ ah_m h' s 10 = zck T nw c.2.1 c.2.2)) → Q (.inl (some (.inl (if c.1 = -1 then -1 else zat T nw (c.2.2 % T 1074 4) (c.2.2 / T 1074 4))))) h') : wpC (d + 43) 230 [.inr (.inr s), .inl c.1] h Q := by
  have hT := NX_T hX
  have hv := zcpk_v hT hc
  have hZ := hS.1
  have hN := NX_N hX
  have h40 := hF.2.2
  have n8 := hK.2.2.2.1; have n6 := hK.2.2.2.2.1
  have hi := zdy_i hX hF hv
  have hC := hK.2.2.2.2.2.1; have hR := hK.2.2.2.2.2.2.1
  have d0 := hF.1
  have s25 : 25 ≤ s := by unfold isS at hZ; omega
  have s0 : 0 < s := by omega
  have hside := hN.2.2.2
  rw [wpC_B]; refine ⟨⟨Nat.zero_lt_succ _, Nat.le_of_ble_eq_true rfl⟩, ?_⟩; simp only [lent]
  by_cases g : c.1 = -1
  · simp only [if_pos g] at hQ
    have ok : ∀ h', Off (fun r i => (r = s ∧ (i = 0 ∨ i = 1 ∨ i = 8)) ∨ r = 14 ∨ r = s + 3) h h' → Off (Wps s) h h' := fun h' hO => Off_mono (fun r i w => by unfold Wps Wmv; omega) hO
    have t1 : (ah_t h s).1 = 8 := s_t hK hS
    simp (disch := omega) only [q_230_0, b_230_0, q_230_109, b_230_109, q_230_119, b_230_119, ↓w_iconst, ↓w_aload_n_0, ↓w_iload_n_1, ↓w_iload_n_2, ↓w_iload_n_3, ↓w_istore_n_2, ↓w_istore_n_3, ↓w_dup_i, ↓w_dup_a, ↓w_iadd, ↓w_isub, ↓w_getfield, ↓w_putfield_0, ↓w_iaload, ↓w_nop, ↓w_goto, ↓w_if_icmp_eq, ↓w_if_icmp_ne, ↓w_invokevirtual_2, stw_0, stw_i, stw_l, stw_r, ofK0, ofK1, ofK2, lst1, lst2, lkill, kont_none, kont_some, Int.reduceToNat, List.length_cons, List.length_nil, Nat.reduceAdd, Nat.reduceLeDiff, Nat.zero_le, true_and, and_true, if_true, if_false, ne_eq, Int.reduceEq, Int.reduceNeg, not_false_eq_true, not_true_eq_false, ↓reduceIte, Int.reduceLT, Int.reduceLE, and_self, or_true, true_or, or_false, false_or, false_and, and_false, ah_t_w, ah_m_w, ah_n_w, lst1_0, List.tail_cons, w32_i, zbd, lst2_0, xt_1a hK, xf_1_10 hK, s_t hK hS, s_0 hS, s_1 hS, s_3 hK hS, s_3a hK hS, s_3b hK hS, s_11 hK hS, g, s0]
    generalize hg : ah_w (ah_w (ah_w h s 8 (-1)) s 1 (1 - nw 1)) s 0 (nw 0 + 1) = g0
    have hO0 : Off (fun r i => (r = s ∧ (i = 0 ∨ i = 1 ∨ i = 8)) ∨ r = 14 ∨ r = s + 3) h g0 := by
      rw [← hg]; exact Off_w (Off_w (Off_w Off_rfl (by omega)) (by omega)) (by omega)
    have hO8 : Off (fun r i => r = s ∧ 8 ≤ i ∧ i ≤ 10) h (ah_w h s 8 (-1)) := Off_w Off_rfl (by omega)
    have hS8 := XS_8 hS hO8 h40.2
    have hK0 : XG T g0 := XG_off hK (ok _ hO0) (Wps_ok hZ)
    have hH0 : XH T g0 := XH_off hH hK.2.1 (ok _ hO0) (Wps_H hZ)
    have g3 : ∀ f, ah_m g0 (s + 3) f = ah_m h (s + 3) f := fun f => by rw [← hg, ah_m_w, if_neg (by omega), ah_m_w, if_neg (by omega), ah_m_w, if_neg (by omega)]
    have a8 : ah_m g0 s 8 = -1 := by rw [← hg]; simp [ah_m_w]
    have a0 : ah_m g0 s 0 = nw 0 + 1 := by rw [← hg]; simp [ah_m_w]
    have a1 : ah_m g0 s 1 = 1 - nw 1 := by rw [← hg]; simp [ah_m_w]
    refine l_230 (tw := 0) (ck := 0) (B := fun f => nw (18 + f)) (E := fun f => zdy T nw 0 c (18 + f)) hK0 hH0 hZ a8 (fun q => absurd rfl q) (fun q => absurd rfl q) a0 (by omega) (by omega) (Or.inl rfl) (by omega) (fun f f0 f1 => hF.2.1 f f0 (by omega)) (fun f f0 f1 => by rw [g3]; exact sb hS f0 f1) (fun f f0 f1 => ?_) (fun h' hO' eb => ?_) (T 1072 5).toNat 0 _ g0 (by omega) (by omega) Off_rfl (fun u u0 u1 => by omega) (fun u _ => rfl)
    · rw [hi.2.2 f f0 f1, if_pos g, if_pos rfl]
    · have hO1 : Off (Wps s) h h' := Off_tr (ok _ hO0) (Off_mono (fun r i w => by unfold Wps Wmv; omega) hO')
      have hO2 : Off (fun r i => (r = s ∧ (i = 0 ∨ i = 1)) ∨ r = 14 ∨ r = s + 3) (ah_w h s 8 (-1)) h' := by
        refine Off_tr (h1 := g0) ?_ (Off_mono (fun r i w => by omega) hO')
        rw [← hg]; exact Off_w (Off_w Off_rfl (by omega)) (by omega)
      refine hQ h' (XG_off hK hO1 (Wps_ok hZ)) (XS_by hS8 n8 n6 h40.2 hO2 (fun i q => ?_) ?_ ?_ eb) (XH_off hH hK.2.1 hO1 (Wps_H hZ)) hO1 ⟨?_, fun q => absurd g q⟩
      · rw [hi.2.1 i (by omega), if_pos g]; unfold zfs; rw [if_neg (by omega)]
      · rw [hO'.2 _ _ (by omega), a0, hi.1]
      · rw [hO'.2 _ _ (by omega), a1, hi.2.1 1 (by omega), if_pos g]; unfold zfs; rw [if_pos rfl]
      · rw [hO'.2 _ _ (by omega)]; exact a8
  · simp only [if_neg g] at hQ
    rcases hv with q | hv
    · exact absurd q g
    have hpk : zpk (zmv T nw) 0 c.1 = some c.2 := by rcases hc with q | q; exact absurd q g; exact q
    have ho := mv_ok hX (zpk_mem _ _ _ hpk)
    have hm := ho.1
    obtain ⟨hh, hG⟩ := id hX
    have hkk := zkk hG ho.2.2.1.1 ho.2.2.1.2
    have hb := @zat_b hh (c.2.2 % T 1074 4) (c.2.2 / T 1074 4) T nw hG
    have hVv : isV 19 := by unfold isV; omega
    have hO0 : Off (fun r i => r = s ∧ 8 ≤ i ∧ i ≤ 10) h (ah_w h s 8 (-1)) := Off_w Off_rfl (by omega)
    have W8 : ∀ {h h'}, Off (fun r i => r = s ∧ 8 ≤ i ∧ i ≤ 10) h h' → Off (Wps s) h h' := fun hO => Off_mono (fun r i w => by unfold Wps Wmv; omega) hO
    have hK0 := XG_off hK (W8 hO0) (Wps_ok hZ)
    have hS0 := XS_8 hS hO0 h40.2
    simp (disch := omega) only [q_230_0, b_230_0, ↓w_iconst, ↓w_aload_n_0, ↓w_iload_n_1, ↓w_iload_n_2, ↓w_iload_n_3, ↓w_istore_n_2, ↓w_istore_n_3, ↓w_getfield, ↓w_putfield_0, ↓w_iaload, ↓w_goto, ↓w_if_icmp_eq, ↓w_if_icmp_ne, ↓w_invokevirtual_2, stw_0, stw_i, stw_l, stw_r, ofK0, ofK1, ofK2, lst1, lst2, lkill, kont_none, kont_some, Int.reduceToNat, List.length_cons, List.length_nil, Nat.reduceAdd, Nat.reduceLeDiff, Nat.zero_le, true_and, and_true, if_true, if_false, ne_eq, Int.reduceEq, Int.reduceNeg, not_false_eq_true, not_true_eq_false, ↓reduceIte, Int.reduceLT, Int.reduceLE, and_self, or_true, true_or, or_false, false_or, false_and, and_false, ah_t_w, ah_m_w, ah_n_w, lst1_0, List.tail_cons, w32_i, zbd, lst2_0, xt_1a hK, xf_1_10 hK, s_t hK hS, s_1 hS, s_3 hK hS, s_3a hK hS, s_3b hK hS, s_11 hK hS, g, s0]
    refine c_215 (d := d + 35) hK0 hS0 h40.2 hN hVv (fun h1 hx hlen hO1 => ?_)
    have hx : XM T 19 (zmv T nw) h1 := hx
    have hK1 := XG_off hK0 hO1 (Wmv_ok hVv)
    have hS1 := XS_off hS0 h40.2 hO1 (Wmv_S hVv hZ)
    have hpx := XMl_pk _ _ hx.2 hpk
    have i0 : 0 ≤ c.1 := hv.1
    have i1 : c.1 < 200 := by have := hpx.2.2; have : ((zmv T nw).length : Int) ≤ 200 := hlen; omega
    have p1 : ah_m h1 20 c.1 = c.2.1 := hpx.1.1
    have p2 : ah_m h1 21 c.1 = zp5 T c.2.2 := hpx.1.2
    have u1 : (ah_t h1 20).1 = -1 := vv_0a hK1 hVv
    have u2 : (ah_t h1 20).2 = 200 := vv_0b hK1 hVv
    have u3 : (ah_t h1 21).1 = -1 := vv_1a hK1 hVv
    have u4 : (ah_t h1 21).2 = 200 := vv_1b hK1 hVv
    simp (disch := omega) only [b_230_0, ↓w_iconst, ↓w_aload_n_0, ↓w_iload_n_1, ↓w_iload_n_2, ↓w_iload_n_3, ↓w_istore_n_2, ↓w_istore_n_3, ↓w_getfield, ↓w_putfield_0, ↓w_iaload, ↓w_goto, ↓w_if_icmp_eq, ↓w_if_icmp_ne, ↓w_invokevirtual_2, stw_0, stw_i, stw_l, stw_r, ofK0, ofK1, ofK2, lst1, lst2, lkill, kont_none, kont_some, Int.reduceToNat, List.length_cons, List.length_nil, Nat.reduceAdd, Nat.reduceLeDiff, Nat.zero_le, true_and, and_true, if_true, if_false, ne_eq, Int.reduceEq, Int.reduceNeg, not_false_eq_true, not_true_eq_false, ↓reduceIte, Int.reduceLT, Int.reduceLE, and_self, or_true, true_or, or_false, false_or, false_and, and_false, ah_t_w, ah_m_w, ah_n_w, lst1_0, List.tail_cons, w32_i, zbd, lst2_0, xt_1a hK1, xf_1_10 hK1, vv_t hK1 hVv, vv_0 hK1 hVv, vv_0a hK1 hVv, vv_0b hK1 hVv, vv_1 hK1 hVv, vv_1a hK1 hVv, vv_1b hK1 hVv, s_t hK1 hS1, s_1 hS1, s_3 hK1 hS1, s_3a hK1 hS1, s_3b hK1 hS1, s_11 hK1 hS1, p1, p2, i0, i1, Int.reduceAdd, u1, u2, u3, u4]
    refine c_221 (d := d + 36) hK1 hS1 hX h40.2 hm.1 hm.2 ho.2.1 ho.2.2.1.1 ho.2.2.1.2 ho.2.2.2 (fun h2 hK2 hS2 hO2 => ?_)
    have em := @zdo_m c.2.1 c.2.2 T nw hm.1
    have ep := sp hS2 hm.1 hm.2
    have ep : ah_m h2 (s + 1) c.2.1 = zp5 T c.2.2 := by rw [ep]; unfold zpl5 zp5; rw [em.1, em.2, if_neg (by omega)]
    have hXd := NX_do hX hm.1 hm.2 ho.2.2.1.1 ho.2.2.1.2
    have d24 : zdo T nw c.2.1 c.2.2 24 = nw 24 := zdo_r hX hm.1 hm.2 (by omega)
    have hp25 : 0 ≤ zp5 T c.2.2 ∧ zp5 T c.2.2 < 25 := by unfold zp5; omega
    have m8 : c.2.1 < 8 := by omega
    have m0 := hm.1
    have htk := ztk_b hX hK ho.2.2.1.1 ho.2.2.1.2
    have hck := @zck_b c.2.1 c.2.2 T nw
    have chk : ∀ {h' : AH} {Q : QQ}, XG T h' → XS T (zdo T nw c.2.1 c.2.2) s h' → (wpC (d + 42) 222 [.inr (.inr s)] h' Q ↔ Q (.inl (some (.inl (zck T nw c.2.1 c.2.2)))) h') := fun {h' Q} a b => c_222 (d := d + 35) a b (NX_N hXd)
    -- from the worth on
    have rest : ∀ h3, XG T h3 → XS T (zdo T nw c.2.1 c.2.2) s h3 → Off (Wps s) h h3 → ah_m h3 s 8 = zp5 T c.2.2 → ∀ tl, wpB (d + 42) 230 89 (some (.inr (.inr s)) :: some (.inl c.1) :: some (.inl (zat T nw (c.2.2 % T 1074 4) (c.2.2 / T 1074 4))) :: some (.inl c.2.1) :: tl) [.inl (ztk T nw c.2.2), .inr (.inr s)] h3 Q := by
      intro h3 hK3 hS3 hO3 a8 tl
      have hO4 : Off (fun r i => r = s ∧ 8 ≤ i ∧ i ≤ 10) h3 (ah_w h3 s 9 (ztk T nw c.2.2)) := Off_w Off_rfl (by omega)
      have hK4 := XG_off hK3 (W8 hO4) (Wps_ok hZ)
      have hS4 := XS_8 hS3 hO4 (by omega)
      have hO5 : Off (fun r i => r = s ∧ 8 ≤ i ∧ i ≤ 10) h3 (ah_w (ah_w h3 s 9 (ztk T nw c.2.2)) s 10 (zck T nw c.2.1 c.2.2)) := Off_w hO4 (by omega)
      have hK5 := XG_off hK3 (W8 hO5) (Wps_ok hZ)
      have hS5 := XS_8 hS3 hO5 (by omega)
      simp (disch := omega) only [q_230_89, b_230_89, ↓w_aload_n_0, ↓w_iload_n_2, ↓w_iload_n_3, ↓w_putfield_0, ↓w_putfield_3, ↓w_goto, ↓w_invokevirtual_0, ↓w_invokevirtual_2, stw_0, stw_i, stw_l, stw_r, ofK0, ofK1, ofK2, lst1, lst2, lkill, kont_none, kont_some, Int.reduceToNat, List.length_cons, List.length_nil, Nat.reduceAdd, Nat.reduceLeDiff, Nat.zero_le, true_and, and_true, if_true, if_false, ne_eq, Int.reduceEq, Int.reduceNeg, not_false_eq_true, not_true_eq_false, ↓reduceIte, Int.reduceLT, Int.reduceLE, and_self, or_true, true_or, or_false, false_or, false_and, and_false, ah_t_w, ah_m_w, ah_n_w, lst1_0, List.tail_cons, w32_i, zbd, lst2_0, s_t hK3 hS3, s0, chk hK4 hS4, eq_true hck]
      refine c_231 (d := d + 41) hK5 hS5 (NX_N hXd) (by omega) (by omega) m0 hm.2 (by rw [em.1]; omega) (fun h6 hK6 hS6 hO6 => ?_)
      rw [em.1, em.2] at hS6
      have e24 := zkp_24 (m := c.2.1) (x := c.2.2 % T 1074 4) (y := c.2.2 / T 1074 4) (z := if zat T nw (c.2.2 % T 1074 4) (c.2.2 / T 1074 4) = -1 then 255 else zat T nw (c.2.2 % T 1074 4) (c.2.2 / T 1074 4)) (nw := zdo T nw c.2.1 c.2.2) (by omega)
      have klo : ∀ i, i < 24 → zkp (zdo T nw c.2.1 c.2.2) c.2.1 (c.2.2 % T 1074 4) (c.2.2 / T 1074 4) (if zat T nw (c.2.2 % T 1074 4) (c.2.2 / T 1074 4) = -1 then 255 else zat T nw (c.2.2 % T 1074 4) (c.2.2 / T 1074 4)) i = zdo T nw c.2.1 c.2.2 i := fun i q => zkp_lo (by omega) q
      have k0 : ah_m h6 s 0 = nw 0 := by rw [s_0 hS6, klo 0 (by omega), zdo_r hX hm.1 hm.2 (by omega)]
      have hO6' : Off (Wps s) h h6 := Off_tr hO3 (Off_tr (W8 hO5) (Off_mono (fun r i w => by unfold Wtl at w; unfold Wps Wmv; omega) hO6))
      have b8 : ah_m h6 s 8 = zp5 T c.2.2 := by rw [hO6.2 _ _ (by unfold Wtl; omega), ah_m_w, if_neg (by omega), ah_m_w, if_neg (by omega)]; exact a8
      have b9 : ah_m h6 s 9 = ztk T nw c.2.2 := by rw [hO6.2 _ _ (by unfold Wtl; omega), ah_m_w, if_neg (by omega), ah_m_w, if_pos ⟨rfl, rfl⟩]
      have b10 : ah_m h6 s 10 = zck T nw c.2.1 c.2.2 := by rw [hO6.2 _ _ (by unfold Wtl; omega), ah_m_w, if_pos ⟨rfl, rfl⟩]
      have tS := sz_t hK6 hZ
      simp (disch := omega) only [b_230_89, q_230_119, b_230_119, ↓w_iconst, ↓w_aload_n_0, ↓w_iload_n_2, ↓w_iload_n_3, ↓w_istore_n_3, ↓w_dup_i, ↓w_dup_a, ↓w_iadd, ↓w_getfield, ↓w_putfield_0, ↓w_putfield_3, ↓w_nop, ↓w_goto, ↓w_invokevirtual_0, ↓w_invokevirtual_2, stw_0, stw_i, stw_l, stw_r, ofK0, ofK1, ofK2, lst1, lst2, lkill, kont_none, kont_some, Int.reduceToNat, List.length_cons, List.length_nil, Nat.reduceAdd, Nat.reduceLeDiff, Nat.zero_le, true_and, and_true, if_true, if_false, ne_eq, Int.reduceEq, Int.reduceNeg, not_false_eq_true, not_true_eq_false, ↓reduceIte, Int.reduceLT, Int.reduceLE, and_self, or_true, true_or, or_false, false_or, false_and, and_false, ah_t_w, ah_m_w, ah_n_w, lst1_0, List.tail_cons, w32_i, zbd, lst2_0, s0, tS, k0]
      have hO7 : Off (fun r i => (r = s ∧ (i = 0 ∨ i = 1)) ∨ r = 14 ∨ r = s + 3) h6 (ah_w h6 s 0 (nw 0 + 1)) := Off_w Off_rfl (by omega)
      have W7 : ∀ {h h'}, Off (fun r i => (r = s ∧ (i = 0 ∨ i = 1)) ∨ r = 14 ∨ r = s + 3) h h' → Off (Wps s) h h' := fun hO => Off_mono (fun r i w => by unfold Wps Wmv; omega) hO
      have hO7' := Off_tr hO6' (W7 hO7)
      have hK7 := XG_off hK hO7' (Wps_ok hZ)
      have hH7 := XH_off hH hK.2.1 hO7' (Wps_H hZ)
      refine l_230 (tw := ztk T nw c.2.2) (ck := zck T nw c.2.1 c.2.2) (n := nw 0 + 1) (p := zp5 T c.2.2) (B := fun f => nw (18 + f)) (E := fun f => zdy T nw 0 c (18 + f)) hK7 hH7 hZ (by rw [ah_m_w, if_neg (by omega)]; exact b8) (fun _ => by rw [ah_m_w, if_neg (by omega)]; exact b9) (fun _ => by rw [ah_m_w, if_neg (by omega)]; exact b10) (by rw [ah_m_w, if_pos ⟨rfl, rfl⟩]) (by omega) (by omega) hck (by omega) (fun f f0 f1 => hF.2.1 f f0 (by omega)) (fun f f0 f1 => ?_) (fun f f0 f1 => ?_) (fun h' hO' eb => ?_) (T 1072 5).toNat 0 _ _ (by omega) (by omega) Off_rfl (fun u u0 u1 => by omega) (fun u _ => rfl)
      · rw [ah_m_w, if_neg (by omega), sb hS6 f0 f1, klo _ (by omega), zdo_r hX hm.1 hm.2 (by omega)]
      · rw [hi.2.2 f f0 f1]
        have q1 : ¬ zp5 T c.2.2 = -1 := by omega
        have q2 : nw 0 + 1 - 1 = nw 0 := by omega
        have q3 : zp5 T c.2.2 % 5 = c.2.2 % T 1074 4 := by unfold zp5; omega
        have q4 : zp5 T c.2.2 / 5 = c.2.2 / T 1074 4 := by unfold zp5; omega
        simp only [if_neg g, if_neg q1, q2, q3, q4]
      · have hO8 := Off_tr hO7 (Off_mono (fun r i w => by omega) hO')
        have hO9 := Off_tr hO6' (W7 hO8)
        refine hQ h' (XG_off hK hO9 (Wps_ok hZ)) (XS_by hS6 n8 n6 e24.2 hO8 (fun i q => ?_) ?_ ?_ eb) (XH_off hH hK.2.1 hO9 (Wps_H hZ)) hO9 ⟨?_, fun _ => ⟨?_, ?_⟩⟩
        · rw [hi.2.1 i (by omega), if_neg g]; rfl
        · rw [hO'.2 _ _ (by omega), ah_m_w, if_pos ⟨rfl, rfl⟩, hi.1]
        · rw [hO'.2 _ _ (by omega), ah_m_w, if_neg (by omega), s_1 hS6, hi.2.1 1 (by omega), if_neg g]; rfl
        · rw [hO'.2 _ _ (by omega), ah_m_w, if_neg (by omega)]; exact b8
        · rw [hO'.2 _ _ (by omega), ah_m_w, if_neg (by omega)]; exact b9
        · rw [hO'.2 _ _ (by omega), ah_m_w, if_neg (by omega)]; exact b10
    have hO2' : Off (Wps s) h h2 := Off_tr (W8 hO0) (Off_tr (Off_mono (fun r i w => by unfold Wps; exact Or.inr (Or.inl w)) hO1) (Off_mono (fun r i w => by unfold WSs at w; unfold Wps Wmv; omega) hO2))
    have hO3 : Off (fun r i => r = s ∧ 8 ≤ i ∧ i ≤ 10) h2 (ah_w h2 s 8 (zp5 T c.2.2)) := Off_w Off_rfl (by omega)
    have hK3 := XG_off hK2 (W8 hO3) (Wps_ok hZ)
    have hS3 := XS_8 hS2 hO3 (by omega)
    have rest := rest _ hK3 hS3 (Off_tr hO2' (W8 hO3)) (by rw [ah_m_w, if_pos ⟨rfl, rfl⟩])
    by_cases g2 : zat T nw (c.2.2 % T 1074 4) (c.2.2 / T 1074 4) = -1
    · have e : ztk T nw c.2.2 = 0 := by unfold ztk; rw [if_pos g2]
      rw [e, g2] at rest
      simp (disch := omega) only [b_230_0, ↓w_iconst, ↓w_aload_n_0, ↓w_iload_n_1, ↓w_iload_n_2, ↓w_iload_n_3, ↓w_istore_n_2, ↓w_istore_n_3, ↓w_getfield, ↓w_putfield_0, ↓w_iaload, ↓w_goto, ↓w_if_icmp_eq, ↓w_if_icmp_ne, ↓w_invokevirtual_2, stw_0, stw_i, stw_l, stw_r, ofK0, ofK1, ofK2, lst1, lst2, lkill, kont_none, kont_some, Int.reduceToNat, List.length_cons, List.length_nil, Nat.reduceAdd, Nat.reduceLeDiff, Nat.zero_le, true_and, and_true, if_true, if_false, ne_eq, Int.reduceEq, Int.reduceNeg, not_false_eq_true, not_true_eq_false, ↓reduceIte, Int.reduceLT, Int.reduceLE, and_self, or_true, true_or, or_false, false_or, false_and, and_false, ah_t_w, ah_m_w, ah_n_w, lst1_0, List.tail_cons, w32_i, zbd, lst2_0, xt_1a hK2, xf_1_10 hK2, s_t hK2 hS2, s_1 hS2, s_3 hK2 hS2, s_3a hK2 hS2, s_3b hK2 hS2, s_11 hK2 hS2, ep, m0, m8, s0, g2]
      exact rest _
    · have e : ztk T nw c.2.2 = zwo T (zat T nw (c.2.2 % T 1074 4) (c.2.2 / T 1074 4)) := by unfold ztk; rw [if_neg g2]
      have z0 : 0 ≤ zat T nw (c.2.2 % T 1074 4) (c.2.2 / T 1074 4) := by omega
      have z1 : zat T nw (c.2.2 % T 1074 4) (c.2.2 / T 1074 4) < T 1072 4 := by omega
      rw [e] at rest
      simp (disch := omega) only [b_230_0, ↓w_iconst, ↓w_aload_n_0, ↓w_iload_n_1, ↓w_iload_n_2, ↓w_iload_n_3, ↓w_istore_n_2, ↓w_istore_n_3, ↓w_getfield, ↓w_putfield_0, ↓w_iaload, ↓w_goto, ↓w_if_icmp_eq, ↓w_if_icmp_ne, ↓w_invokevirtual_2, stw_0, stw_i, stw_l, stw_r, ofK0, ofK1, ofK2, lst1, lst2, lkill, kont_none, kont_some, Int.reduceToNat, List.length_cons, List.length_nil, Nat.reduceAdd, Nat.reduceLeDiff, Nat.zero_le, true_and, and_true, if_true, if_false, ne_eq, Int.reduceEq, Int.reduceNeg, not_false_eq_true, not_true_eq_false, ↓reduceIte, Int.reduceLT, Int.reduceLE, and_self, or_true, true_or, or_false, false_or, false_and, and_false, ah_t_w, ah_m_w, ah_n_w, lst1_0, List.tail_cons, w32_i, zbd, lst2_0, xt_1a hK2, xf_1_10 hK2, s_t hK2 hS2, s_1 hS2, s_3 hK2 hS2, s_3a hK2 hS2, s_3b hK2 hS2, s_11 hK2 hS2, ep, m0, m8, s0, g2]
      generalize ah_w h2 s 8 (zp5 T c.2.2) = g3 at *
      simp (disch := omega) only [q_230_78, b_230_78, ↓w_aload_n_0, ↓w_iload_n_2, ↓w_getfield, ↓w_nop, ↓w_invokevirtual_1, stw_0, stw_i, stw_l, stw_r, ofK0, ofK1, ofK2, lst1, lst2, lkill, kont_none, kont_some, Int.reduceToNat, List.length_cons, List.length_nil, Nat.reduceAdd, Nat.reduceLeDiff, Nat.zero_le, true_and, and_true, if_true, if_false, ne_eq, Int.reduceEq, Int.reduceNeg, not_false_eq_true, not_true_eq_false, ↓reduceIte, Int.reduceLT, Int.reduceLE, and_self, or_true, true_or, or_false, false_or, false_and, and_false, ah_t_w, ah_m_w, ah_n_w, lst1_0, List.tail_cons, w32_i, zbd, lst2_0, xt_1a hK3, s_t hK3 hS3, s_11 hK3 hS3, c_82 hK3 z0 z1, km_t hK3 z0 z1, km_3 hK3 z0 z1]
      exact rest _
end Y7
