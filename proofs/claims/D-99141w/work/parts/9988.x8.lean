/-! ===== X: a man moves ===== -/
def WSs (s r i : Int) : Prop := (r = s ∧ (i = 0 ∨ i = 1 ∨ i = 2 ∨ (7 ≤ i ∧ i ≤ 10))) ∨ r = s + 1 ∨ r = s + 2 ∨ r = s + 3
section X8
variable {W : Int → Int → Prop} {d : Nat} {h h' h0 : AH} {Q : QQ} {x y z m k s l w a b c v n p r o i f q : Int} {S T T' : Int → Int → Int} {t nw nw' : Int → Int}
set_option maxHeartbeats 4000000
theorem zcn_c : ∀ (j : Nat) (i : Int), (∀ u, i ≤ u → u < i + j → (nw' (2 + 2 * u) = -1 ↔ nw (2 + 2 * u) = -1)) → zcn T nw' j i = zcn T nw j i := by
  intro j
  induction j with
  | zero => intro i _; rfl
  | succ j ih =>
    intro i e
    simp only [zcn]
    rw [ih (i + 1) (fun u a b => e u (by omega) (by omega))]
    have := e i (by omega) (by omega)
    by_cases g : nw (2 + 2 * i) = -1 ∧ zcw T i = 1
    · rw [if_pos g, if_pos ⟨this.2 g.1, g.2⟩]
    · rw [if_neg g, if_neg (fun u => g ⟨this.1 u.1, u.2⟩)]
theorem zcn_q (hq : nw (2 + 2 * q) ≠ -1) (hq' : nw' (2 + 2 * q) = -1) : ∀ (j : Nat) (i : Int), i ≤ q → q < i + j → (∀ u, i ≤ u → u < i + j → u ≠ q → (nw' (2 + 2 * u) = -1 ↔ nw (2 + 2 * u) = -1)) → zcn T nw' j i = zcn T nw j i + (if zcw T q = 1 then 1 else 0) := by
  intro j
  induction j with
  | zero => intro i a b; omega
  | succ j ih =>
    intro i a b e
    simp only [zcn]
    by_cases g : i = q
    · subst g
      rw [zcn_c j (i + 1) (fun u a b => e u (by omega) (by omega) (by omega)), if_neg (c := nw (2 + 2 * i) = -1 ∧ zcw T i = 1) (fun u => hq u.1)]
      by_cases g2 : zcw T i = 1
      · rw [if_pos ⟨hq', g2⟩, if_pos g2]; omega
      · rw [if_neg (fun u => g2 u.2), if_neg g2]; omega
    · rw [ih (i + 1) (by omega) (by omega) (fun u a b c => e u (by omega) (by omega) c)]
      have := e i (by omega) (by omega) g
      by_cases g2 : nw (2 + 2 * i) = -1 ∧ zcw T i = 1
      · rw [if_pos g2, if_pos ⟨this.2 g2.1, g2.2⟩]; omega
      · rw [if_neg g2, if_neg (fun u => g2 ⟨this.1 u.1, u.2⟩)]; omega
theorem zcn_do (hX : NX T nw) (h1 : 0 ≤ m) (h2 : m < T 1072 4) (h3 : nw (2 + 2 * m) ≠ -1) (hk : 0 ≤ k) (hk2 : k < zP T) (hne : zat T nw (k % T 1074 4) (k / T 1074 4) ≠ m) : zcn T (zdo T nw m k) (zn T) 0 = zcn T nw (zn T) 0 + (if zat T nw (k % T 1074 4) (k / T 1074 4) = -1 then 0 else if zcw T (zat T nw (k % T 1074 4) (k / T 1074 4)) = 1 then 1 else 0) := by
  obtain ⟨h0, hG⟩ := id hX
  have hkk := zkk hG hk hk2
  have hzn := zn_i hG
  have em := @zdo_m m k T nw h1
  have hb := @zat_b h0 (k % T 1074 4) (k / T 1074 4) T nw hG
  by_cases g : zat T nw (k % T 1074 4) (k / T 1074 4) = -1
  · rw [if_pos g, Int.add_zero]
    refine zcn_c _ _ (fun u a b => ?_)
    by_cases e : u = m
    · rw [e, em.1]; omega
    · rw [(zdo_o (T := T) (nw := nw) (k := k) h1 a e (by omega)).1]
  · rw [if_neg g]
    have ht := zat_at g
    refine zcn_q (by rw [ht.1]; omega) (zdo_q h1 g hne (by omega)).1 _ _ (by omega) (by omega) (fun u a b c => ?_)
    by_cases e : u = m
    · rw [e, em.1]; omega
    · rw [(zdo_o (T := T) (nw := nw) (k := k) h1 a e c).1]
theorem WSs_ok (hs : isS s) : ∀ r i, WSs s r i → ¬ fix r i ∧ ¬ BRr r ∧ ¬ (r = 1 ∧ i = 0) := by
  intro r i w
  unfold WSs at w; unfold isS at hs; unfold fix BRr isS isV
  omega
/-- a state in which a man has moved -/
theorem XS_mv (hS : XS T nw s h) (hX : NX T nw) (h40 : nw 24 ≤ 40) (m0 : 0 ≤ m) (m1 : m < T 1072 4) (hm : nw (2 + 2 * m) ≠ -1) (k0 : 0 ≤ k) (k1 : k < zP T) (hne : zat T nw (k % T 1074 4) (k / T 1074 4) ≠ m) (hO : Off (WSs s) h h')
    (e0 : ah_m h' s 0 = nw 0) (e1 : ah_m h' s 1 = 1 - nw 1) (e2 : ah_m h' s 2 = nw 24) (e7 : ah_m h' s 7 = zcn T nw (zn T) 0 + (if zat T nw (k % T 1074 4) (k / T 1074 4) = -1 then 0 else if zcw T (zat T nw (k % T 1074 4) (k / T 1074 4)) = 1 then 1 else 0))
    (ep : ∀ i, 0 ≤ i → i < T 1072 4 → ah_m h' (s + 1) i = if i = m then zp5 T k else if i = zat T nw (k % T 1074 4) (k / T 1074 4) then -1 else ah_m h (s + 1) i)
    (eo : ∀ p, 0 ≤ p → p < 25 → ah_m h' (s + 2) p = if p = zp5 T k then m else if p = 5 * nw (3 + 2 * m) + nw (2 + 2 * m) then -1 else ah_m h (s + 2) p)
    (eb : ∀ f, ah_m h' (s + 3) f = ah_m h (s + 3) f) : XS T (zdo T nw m k) s h' := by
  obtain ⟨hh, hG⟩ := id hX
  have hN := NX_N hX
  have hkk := zkk hG k0 k1
  have n8 := hG.2.2.2.1.2.1; have n6 := hG.2.2.2.1.2.2.1
  have hC := hG.2.2.2.1.2.2.2.1
  have hb := @zat_b hh (k % T 1074 4) (k / T 1074 4) T nw hG
  have em := @zdo_m m k T nw m0
  have zr : ∀ i, (i = 0 ∨ 18 ≤ i) → zdo T nw m k i = nw i := fun i q => zdo_r hX m0 m1 q
  have hcr : (0 ≤ nw (2 + 2 * m) ∧ nw (2 + 2 * m) < T 1074 4) ∧ (0 ≤ nw (3 + 2 * m) ∧ nw (3 + 2 * m) < T 1074 5) := by
    rcases hN.2.1 m m0 m1 with q | q
    · exact absurd q.1 hm
    · exact q
  have hp5 : zp5 T k = 5 * (k / T 1074 4) + k % T 1074 4 := rfl
  have hm4 : ∀ r i, s + 4 ≤ r → ah_m h' r i = ah_m h r i := fun r i q => hO.2 r i (by unfold WSs; omega)
  refine ⟨hS.1, ⟨?_, ?_, ?_, ?_⟩, fun i p q => ?_, fun p p0 p1 => ?_, fun f p q => ?_, fun u i p q a b => ?_, fun u p q => ?_, fun j u p q a b ne => ?_⟩
  · rw [e0, zr 0 (by omega)]
  · rw [e1]; unfold zdo; rw [if_pos rfl]
  · rw [e2, zr 24 (by omega)]
  · rw [e7, zcn_do hX m0 m1 hm k0 k1 hne]
  · rw [ep i p q]
    by_cases g : i = m
    · rw [if_pos g, g]; unfold zpl5; rw [em.1, em.2, if_neg (by omega)]; rfl
    · rw [if_neg g]
      by_cases g2 : i = zat T nw (k % T 1074 4) (k / T 1074 4)
      · rw [if_pos g2]; unfold zpl5
        rw [g2, (zdo_q m0 (by omega) hne (by omega)).1, if_pos rfl]
      · rw [if_neg g2, sp hS p q]
        have := zdo_o (T := T) (nw := nw) (k := k) m0 p g g2
        unfold zpl5; rw [this.1, this.2]
  · rw [eo p p0 p1]
    unfold zon5
    rw [zat_do hX m0 m1 hm k0 k1 (by omega)]
    have c1 : (p % 5 = k % T 1074 4 ∧ p / 5 = k / T 1074 4) ↔ p = zp5 T k := by omega
    have c2 : (p % 5 = nw (2 + 2 * m) ∧ p / 5 = nw (3 + 2 * m)) ↔ p = 5 * nw (3 + 2 * m) + nw (2 + 2 * m) := by omega
    by_cases g : p = zp5 T k
    · rw [if_pos g, if_pos (c1.2 g)]
    · rw [if_neg g, if_neg (fun q => g (c1.1 q))]
      by_cases g2 : p = 5 * nw (3 + 2 * m) + nw (2 + 2 * m)
      · rw [if_pos g2, if_pos (c2.2 g2)]
      · rw [if_neg g2, if_neg (fun q => g2 (c2.1 q)), so hS p0 p1]; rfl
  · rw [eb, sb hS p q, zr _ (by omega)]
  · rw [zr 24 (by omega)] at q
    have := hS.2.2.2.2.2.2.1 u p (by omega)
    rw [hm4 (s + 4) u (by omega), hm4 _ _ (by omega), hS.2.2.2.2.2.1 u i p q a b, zr _ (by omega)]
  · rw [hm4 _ _ (by omega)]; exact hS.2.2.2.2.2.2.1 u p q
  · rw [hm4 _ _ (by omega), hm4 _ _ (by omega)]; exact hS.2.2.2.2.2.2.2 j u p q a b ne
theorem c_221 (hK : XG T h) (hS : XS T nw s h) (hX : NX T nw) (h40 : nw 24 ≤ 40) (m0 : 0 ≤ m) (m1 : m < T 1072 4) (hm : nw (2 + 2 * m) ≠ -1) (k0 : 0 ≤ k) (k1 : k < zP T) (hne : zat T nw (k % T 1074 4) (k / T 1074 4) ≠ m)
    (hQ : ∀ h', XG T h' → XS T (zdo T nw m k) s h' → Off (WSs s) h h' → Q (.inl (some (.inl (zat T nw (k % T 1074 4) (k / T 1074 4))))) h') : wpC (d + 6) 221 [.inr (.inr s), .inl m, .inl (zp5 T k)] h Q := by
  obtain ⟨hh, hG⟩ := id hX
  have hN := NX_N hX
  have hkk := zkk hG k0 k1
  have n8 := hK.2.2.2.1
  have hC := hK.2.2.2.2.2.1; have hR := hK.2.2.2.2.2.2.1
  have hb := @zat_b hh (k % T 1074 4) (k / T 1074 4) T nw hG
  have hcr : (0 ≤ nw (2 + 2 * m) ∧ nw (2 + 2 * m) < T 1074 4) ∧ (0 ≤ nw (3 + 2 * m) ∧ nw (3 + 2 * m) < T 1074 5) := by
    rcases hN.2.1 m m0 m1 with q | q
    · exact absurd q.1 hm
    · exact q
  have hp5 : zp5 T k = 5 * (k / T 1074 4) + k % T 1074 4 := rfl
  have ep := sp hS m0 m1
  unfold zpl5 at ep
  rw [if_neg hm] at ep
  have eo : ah_m h (s + 2) (zp5 T k) = zat T nw (k % T 1074 4) (k / T 1074 4) := by
    rw [so hS (by omega) (by omega)]
    unfold zon5
    rw [show zp5 T k % 5 = k % T 1074 4 by omega, show zp5 T k / 5 = k / T 1074 4 by omega]
  have hs0 : 25 ≤ s := by have := hS.1; unfold isS at this; omega
  have f1 : ¬ s = s + 1 := by omega
  have f2 : ¬ s = s + 2 := by omega
  have f3 : ¬ s + 1 = s + 2 := by omega
  have f4 : ¬ s + 2 = s + 1 := by omega
  have f5 : 0 < s := by omega
  have f6 : 0 < s + 1 := by omega
  have f7 : 0 < s + 2 := by omega
  have hside := hN.2.2.2
  have hzc := @zcn_0 T nw (zn T) 0
  have hzn := zn_i hG
  rw [wpC_B]; refine ⟨⟨Nat.zero_lt_succ _, Nat.le_of_ble_eq_true rfl⟩, ?_⟩; simp only [lent]
  by_cases g : zat T nw (k % T 1074 4) (k / T 1074 4) = -1
  · simp (disch := omega) only [q_221_0, b_221_0, q_221_59, b_221_59, ↓w_iconst, ↓w_aload_n_0, ↓w_iload_n_1, ↓w_iload_n_2, ↓w_iload_n_3, ↓w_istore_n_3, ↓w_dup_i, ↓w_dup_a, ↓w_isub, ↓w_getfield, ↓w_putfield_0, ↓w_iaload, ↓w_iastore, ↓w_goto, ↓w_ifCond_eq, ↓w_if_icmp_eq, ↓w_ireturn0, ↓w_invokevirtual_1, stw_0, stw_i, stw_l, stw_r, ofK0, ofK1, ofK2, lst1, lst2, lkill, kont_none, kont_some, Int.reduceToNat, List.length_cons, List.length_nil, Nat.reduceAdd, Nat.reduceLeDiff, Nat.zero_le, true_and, and_true, if_true, if_false, ne_eq, Int.reduceEq, Int.reduceNeg, not_false_eq_true, not_true_eq_false, ↓reduceIte, Int.reduceLT, Int.reduceLE, and_self, or_true, true_or, or_false, false_or, false_and, and_false, ah_t_w, ah_m_w, ah_n_w, lst1_0, List.tail_cons, w32_i, zbd, lst2_0, xt_1a hK, s_t hK hS, s_1 hS, s_3 hK hS, s_3a hK hS, s_3b hK hS, s_4 hK hS, s_4a hK hS, s_4b hK hS, s_7 hS, s_11 hK hS, ep, eo, g, f1, f2, f3, f4, f5, f6, f7]
    have hO : Off (WSs s) h (ah_w (ah_w (ah_w (ah_w h (s + 2) (5 * nw (3 + 2 * m) + nw (2 + 2 * m)) (-1)) (s + 1) m (zp5 T k)) (s + 2) (zp5 T k) m) s 1 (1 - nw 1)) :=
      Off_w (Off_w (Off_w (Off_w Off_rfl (by unfold WSs; omega)) (by unfold WSs; omega)) (by unfold WSs; omega)) (by unfold WSs; omega)
    have hQ := hQ _ (XG_off hK hO (WSs_ok hS.1)) (XS_mv hS hX h40 m0 m1 hm k0 k1 hne hO ?_ ?_ ?_ ?_ (fun i p q => ?_) (fun p p0 p1 => ?_) (fun f => ?_)) hO
    · rw [g] at hQ; exact hQ
    · rw [ah_m_w, if_neg (by omega), ah_m_w, if_neg (by omega), ah_m_w, if_neg (by omega), ah_m_w, if_neg (by omega)]; exact s_0 hS
    · rw [ah_m_w, if_pos ⟨rfl, rfl⟩]
    · rw [ah_m_w, if_neg (by omega), ah_m_w, if_neg (by omega), ah_m_w, if_neg (by omega), ah_m_w, if_neg (by omega)]; exact s_2 hS
    · rw [ah_m_w, if_neg (by omega), ah_m_w, if_neg (by omega), ah_m_w, if_neg (by omega), ah_m_w, if_neg (by omega), if_pos g, Int.add_zero]; exact s_7 hS
    · rw [ah_m_w, if_neg (by omega), ah_m_w, if_neg (by omega), ah_m_w]
      by_cases e : i = m
      · rw [if_pos ⟨rfl, e⟩, if_pos e]
      · rw [if_neg (fun u => e u.2), if_neg e, if_neg (by omega), ah_m_w, if_neg (by omega)]
    · rw [ah_m_w, if_neg (by omega), ah_m_w]
      by_cases e : p = zp5 T k
      · rw [if_pos ⟨rfl, e⟩, if_pos e]
      · rw [if_neg (fun u => e u.2), if_neg e, ah_m_w, if_neg (by omega), ah_m_w]
        by_cases e2 : p = 5 * nw (3 + 2 * m) + nw (2 + 2 * m)
        · rw [if_pos ⟨rfl, e2⟩, if_pos e2]
        · rw [if_neg (fun u => e2 u.2), if_neg e2]
    · rw [ah_m_w, if_neg (by omega), ah_m_w, if_neg (by omega), ah_m_w, if_neg (by omega), ah_m_w, if_neg (by omega)]
  · have hq : 0 ≤ zat T nw (k % T 1074 4) (k / T 1074 4) ∧ zat T nw (k % T 1074 4) (k / T 1074 4) < T 1072 4 := by omega
    generalize hqe : zat T nw (k % T 1074 4) (k / T 1074 4) = t at *
    have hO2 : Off (WSs s) h (ah_w (ah_w h (s + 2) (5 * nw (3 + 2 * m) + nw (2 + 2 * m)) (-1)) (s + 1) t (-1)) := Off_w (Off_w Off_rfl (by unfold WSs; omega)) (by unfold WSs; omega)
    have hK2 := XG_off hK hO2 (WSs_ok hS.1)
    have fin : ∀ cw, (cw = if zcw T t = 1 then 1 else 0) → Q (.inl (some (.inl t))) (ah_w (ah_w (ah_w (ah_w (ah_w (ah_w h (s + 2) (5 * nw (3 + 2 * m) + nw (2 + 2 * m)) (-1)) (s + 1) t (-1)) s 7 (zcn T nw (zn T) 0 + cw)) (s + 1) m (zp5 T k)) (s + 2) (zp5 T k) m) s 1 (1 - nw 1)) := by
      intro cw hcw
      have hO : Off (WSs s) h (ah_w (ah_w (ah_w (ah_w (ah_w (ah_w h (s + 2) (5 * nw (3 + 2 * m) + nw (2 + 2 * m)) (-1)) (s + 1) t (-1)) s 7 (zcn T nw (zn T) 0 + cw)) (s + 1) m (zp5 T k)) (s + 2) (zp5 T k) m) s 1 (1 - nw 1)) :=
        Off_w (Off_w (Off_w (Off_w hO2 (by unfold WSs; omega)) (by unfold WSs; omega)) (by unfold WSs; omega)) (by unfold WSs; omega)
      refine hQ _ (XG_off hK hO (WSs_ok hS.1)) (XS_mv hS hX h40 m0 m1 hm k0 k1 (by rw [hqe]; exact hne) hO ?_ ?_ ?_ ?_ (fun i p q => ?_) (fun p p0 p1 => ?_) (fun f => ?_)) hO
      · rw [ah_m_w, if_neg (by omega), ah_m_w, if_neg (by omega), ah_m_w, if_neg (by omega), ah_m_w, if_neg (by omega), ah_m_w, if_neg (by omega), ah_m_w, if_neg (by omega)]; exact s_0 hS
      · rw [ah_m_w, if_pos ⟨rfl, rfl⟩]
      · rw [ah_m_w, if_neg (by omega), ah_m_w, if_neg (by omega), ah_m_w, if_neg (by omega), ah_m_w, if_neg (by omega), ah_m_w, if_neg (by omega), ah_m_w, if_neg (by omega)]; exact s_2 hS
      · rw [ah_m_w, if_neg (by omega), ah_m_w, if_neg (by omega), ah_m_w, if_neg (by omega), ah_m_w, if_pos ⟨rfl, rfl⟩, hqe, if_neg g, hcw]
      · rw [ah_m_w, if_neg (by omega), ah_m_w, if_neg (by omega), ah_m_w, hqe]
        by_cases e : i = m
        · rw [if_pos ⟨rfl, e⟩, if_pos e]
        · rw [if_neg (fun u => e u.2), if_neg e, ah_m_w, if_neg (by omega), ah_m_w]
          by_cases e2 : i = t
          · rw [if_pos ⟨rfl, e2⟩, if_pos e2]
          · rw [if_neg (fun u => e2 u.2), if_neg e2, ah_m_w, if_neg (by omega)]
      · rw [ah_m_w, if_neg (by omega), ah_m_w]
        by_cases e : p = zp5 T k
        · rw [if_pos ⟨rfl, e⟩, if_pos e]
        · rw [if_neg (fun u => e u.2), if_neg e, ah_m_w, if_neg (by omega), ah_m_w, if_neg (by omega), ah_m_w, if_neg (by omega), ah_m_w]
          by_cases e2 : p = 5 * nw (3 + 2 * m) + nw (2 + 2 * m)
          · rw [if_pos ⟨rfl, e2⟩, if_pos e2]
          · rw [if_neg (fun u => e2 u.2), if_neg e2]
      · rw [ah_m_w, if_neg (by omega), ah_m_w, if_neg (by omega), ah_m_w, if_neg (by omega), ah_m_w, if_neg (by omega), ah_m_w, if_neg (by omega), ah_m_w, if_neg (by omega)]
    have hz : zcw T t = 0 ∨ zcw T t = 1 := by
      have hk := (hK.2.2.2.2.2.2.2.1 t hq.1 (by omega)).1
      exact (hK.2.2.2.2.2.2.2.2.1 _ hk.1 hk.2).2.2.2
    have hst := s_7 hS
    rcases hz with hz | hz
    · have fin := fin 0 (by rw [if_neg (by omega)])
      simp (disch := omega) only [q_221_0, b_221_0, q_221_54, b_221_54, q_221_55, b_221_55, q_221_59, b_221_59, ↓w_iconst, ↓w_aload_n_0, ↓w_iload_n_1, ↓w_iload_n_2, ↓w_iload_n_3, ↓w_istore_n_3, ↓w_dup_i, ↓w_dup_a, ↓w_iadd, ↓w_isub, ↓w_getfield, ↓w_putfield_0, ↓w_iaload, ↓w_iastore, ↓w_nop, ↓w_goto, ↓w_ifCond_eq, ↓w_if_icmp_eq, ↓w_ireturn0, ↓w_invokevirtual_1, stw_0, stw_i, stw_l, stw_r, ofK0, ofK1, ofK2, lst1, lst2, lkill, kont_none, kont_some, Int.reduceToNat, List.length_cons, List.length_nil, Nat.reduceAdd, Nat.reduceLeDiff, Nat.zero_le, true_and, and_true, if_true, if_false, ne_eq, Int.reduceEq, Int.reduceNeg, not_false_eq_true, not_true_eq_false, ↓reduceIte, Int.reduceLT, Int.reduceLE, and_self, or_true, true_or, or_false, false_or, false_and, and_false, ah_t_w, ah_m_w, ah_n_w, lst1_0, List.tail_cons, w32_i, zbd, lst2_0, xt_1a hK, s_t hK hS, s_1 hS, s_3 hK hS, s_3a hK hS, s_3b hK hS, s_4 hK hS, s_4a hK hS, s_4b hK hS, s_7 hS, s_11 hK hS, ep, eo, g, f1, f2, f3, f4, f5, f6, f7, c_82 hK2 hq.1 hq.2, km_t hK2 hq.1 hq.2, km_4 hK2 hq.1 hq.2, hz, hqe]
      exact ⟨km_t hK2 hq.1 hq.2, fin⟩
    · have fin := fin 1 (by rw [if_pos hz])
      simp (disch := omega) only [q_221_0, b_221_0, q_221_54, b_221_54, q_221_55, b_221_55, q_221_59, b_221_59, ↓w_iconst, ↓w_aload_n_0, ↓w_iload_n_1, ↓w_iload_n_2, ↓w_iload_n_3, ↓w_istore_n_3, ↓w_dup_i, ↓w_dup_a, ↓w_iadd, ↓w_isub, ↓w_getfield, ↓w_putfield_0, ↓w_iaload, ↓w_iastore, ↓w_nop, ↓w_goto, ↓w_ifCond_eq, ↓w_if_icmp_eq, ↓w_ireturn0, ↓w_invokevirtual_1, stw_0, stw_i, stw_l, stw_r, ofK0, ofK1, ofK2, lst1, lst2, lkill, kont_none, kont_some, Int.reduceToNat, List.length_cons, List.length_nil, Nat.reduceAdd, Nat.reduceLeDiff, Nat.zero_le, true_and, and_true, if_true, if_false, ne_eq, Int.reduceEq, Int.reduceNeg, not_false_eq_true, not_true_eq_false, ↓reduceIte, Int.reduceLT, Int.reduceLE, and_self, or_true, true_or, or_false, false_or, false_and, and_false, ah_t_w, ah_m_w, ah_n_w, lst1_0, List.tail_cons, w32_i, zbd, lst2_0, xt_1a hK, s_t hK hS, s_1 hS, s_3 hK hS, s_3a hK hS, s_3b hK hS, s_4 hK hS, s_4a hK hS, s_4b hK hS, s_7 hS, s_11 hK hS, ep, eo, g, f1, f2, f3, f4, f5, f6, f7, c_82 hK2 hq.1 hq.2, km_t hK2 hq.1 hq.2, km_4 hK2 hq.1 hq.2, hz, hqe]
      exact ⟨km_t hK2 hq.1 hq.2, fin⟩
end X8
