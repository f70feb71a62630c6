/-! ===== M: days ===== -/
/-- today's choice; days on end (D0, D1: how deep each side looks) -/
def zto (T : Int → Int → Int) (D0 D1 : Int) (nw : Int → Int) : Int × Int × Int := zbe T nw ((if nw 1 = 0 then D0 else D1) - 1).toNat 0 0
def zds (T : Int → Int → Int) (th D0 D1 : Int) : Nat → (Int → Int) → (Int → Int)
  | 0, nw => nw
  | n + 1, nw => zds T th D0 D1 n (zdy T nw th (zto T D0 D1 nw))
def WD (r i : Int) : Prop := Wc r i ∨ Wy r i
section DAY2
variable {d : Nat} {h h0 : AH} {Q : QQ} {x y z m k s l w a b v n t p th : Int} {T : Int → Int → Int} {nw g : Int → Int} {c : Int × Int × Int}
set_option maxHeartbeats 2000000
theorem WD_f {r i : Int} (w : WD r i) : fre r i ∧ ¬ (1072 ≤ r ∧ r ≤ 1082) := by
  rcases w with w | w
  · exact ⟨(Wc_f w).1, fun q => (Wc_f w).2 ⟨q.1, by omega⟩⟩
  · exact ⟨Wy_f w, by unfold Wy Wq at w; omega⟩
theorem zgr_0 : zgr T 0 nw = nw := by funext i; unfold zgr; rw [if_neg (by omega)]
theorem zgr_lo {i : Int} (hi : i < 18) : zgr T n nw i = nw i := by unfold zgr; rw [if_neg (by omega)]
theorem l_332 (hG : MG T nw h) (hF : ∀ f, 0 ≤ f → f < 6 → 0 ≤ nw (18 + f) ∧ nw (18 + f) ≤ 999) (hd : 0 ≤ nw 0 ∧ nw 0 < 5000) (hQ : ∀ h', ah_m h' 1083 = znx (zgr T (T 1072 5) nw) → Off W83 h h' → Q (.inl none) h') :
    ∀ (j : Nat) (f : Int) tl h', 0 ≤ f → f + j = T 1072 5 → Off W83 h h' → ah_m h' 1083 = zgr T f nw → wpB (d + 1) 332 31 (some (.inr (.inr 1036)) :: some (.inl f) :: tl) [] h' Q := by
  have h5 := hG.2.2.2.1.2.2.1
  have hT := hG.2.2.2.1
  have h99 := hT.2.2.2.2.2.2.2.2.1
  intro j
  induction j with
  | zero =>
    intro f tl h' f0 f1 hO e
    have hG' : MG T (zgr T f nw) h' := MG_83 hG e (fun i a b => zgr_lo b) hO
    have hlt : ¬ f < T 1072 5 := by omega
    have ef : f = T 1072 5 := by omega
    have e0 : zgr T f nw 0 = nw 0 := zgr_lo (by decide)
    simp (disch := omega) only [q_332_31, b_332_31, q_332_98, b_332_98, ↓w_iconst, ↓w_bipush, ↓w_sipush, ↓w_aload_n_0, ↓w_iload_n_1, ↓w_dup2, ↓w_iadd, ↓w_getfield, ↓w_iaload, ↓w_iastore, ↓w_goto, ↓w_if_icmp_ge, ↓w_if_icmp_le, ↓w_return, ↓w_invokevirtual_0, stw_0, stw_i, stw_l, stw_r, ofK0, ofK1, ofK2, lst1, lst2, lkill, kont_none, kont_some, Int.reduceToNat, List.length_cons, List.length_nil, Nat.reduceAdd, Nat.reduceLeDiff, Nat.zero_le, true_and, and_true, if_true, if_false, ne_eq, Int.reduceEq, Int.reduceNeg, not_false_eq_true, not_true_eq_false, ↓reduceIte, Int.reduceLT, Int.reduceLE, and_self, or_true, true_or, or_false, false_or, false_and, and_false, ah_t_w, ah_m_w, ah_n_w, lst1_0, List.tail_cons, w32_i, zbd, lst2_0, mt_1036a hG'.1, mt_1079a hG'.1, mt_1079b hG'.1, mf_52 hG'.1, mt_1083a hG'.1, mt_1083b hG'.1, mf_62 hG'.1, g_1079 hG', g_1083 hG', c_299 hG', hlt, e0]
    refine hQ _ ?_ (Off_w hO rfl)
    rw [ah_m_wr, g_1083 hG']
    funext i; unfold znx; rw [← ef]
    by_cases e1 : i = 0
    · rw [if_pos e1, if_pos e1, e0]
    · rw [if_neg e1, if_neg e1]
  | succ j ih =>
    intro f tl h' f0 f1 hO e
    have hG' : MG T (zgr T f nw) h' := MG_83 hG e (fun i a b => zgr_lo b) hO
    have hlt : f < T 1072 5 := by omega
    have ef : zgr T f nw (18 + f) = nw (18 + f) := by unfold zgr; rw [if_neg (by omega)]
    have hf := hF f f0 (by omega)
    have fin : ∀ tl v, v = (if 999 < nw (18 + f) + T 1079 2 then 999 else nw (18 + f) + T 1079 2) → wpB (d + 1) 332 31 (some (.inr (.inr 1036)) :: some (.inl (f + 1)) :: tl) [] (ah_w h' 1083 (18 + f) v) Q := by
      intro tl v hv
      refine ih (f + 1) tl _ (by omega) (by omega) (Off_w hO rfl) ?_
      rw [ah_m_wr, g_1083 hG']
      funext i
      by_cases ei : i = 18 + f
      · subst ei
        rw [if_pos rfl]
        unfold zgr
        rw [if_pos (by omega)]; exact hv
      · rw [if_neg ei]
        have e4 : (18 ≤ i ∧ i < 18 + (f + 1)) = (18 ≤ i ∧ i < 18 + f) := by simp; omega
        unfold zgr
        simp only [e4]
    rw [q_332_31]
    by_cases g : 999 < nw (18 + f) + T 1079 2
    · rw [if_pos g] at fin
      simp (disch := omega) only [b_332_31, q_332_91, b_332_91, ↓w_iconst, ↓w_bipush, ↓w_sipush, ↓w_aload_n_0, ↓w_iload_n_1, ↓w_iinc_1, ↓w_iadd, ↓w_getfield, ↓w_iaload, ↓w_iastore, ↓w_goto, ↓w_if_icmp_ge, ↓w_if_icmp_le, ↓w_invokevirtual_0, stw_0, stw_i, stw_l, stw_r, ofK0, ofK1, ofK2, lst1, lst2, lkill, kont_none, kont_some, Int.reduceToNat, List.length_cons, List.length_nil, Nat.reduceAdd, Nat.reduceLeDiff, Nat.zero_le, true_and, and_true, if_true, if_false, ne_eq, Int.reduceEq, Int.reduceNeg, not_false_eq_true, not_true_eq_false, ↓reduceIte, Int.reduceLT, Int.reduceLE, and_self, or_true, true_or, or_false, false_or, false_and, and_false, ah_t_w, ah_m_w, ah_n_w, lst1_0, List.tail_cons, w32_i, zbd, lst2_0, mt_1036a hG'.1, mt_1079a hG'.1, mt_1079b hG'.1, mf_52 hG'.1, mt_1083a hG'.1, mt_1083b hG'.1, mf_62 hG'.1, g_1079 hG', g_1083 hG', c_299 hG', hlt, ef, g]
      exact fin _ _ rfl
    · rw [if_neg g] at fin
      simp (disch := omega) only [b_332_31, q_332_75, b_332_75, q_332_91, b_332_91, ↓w_iconst, ↓w_bipush, ↓w_sipush, ↓w_aload_n_0, ↓w_iload_n_1, ↓w_iinc_1, ↓w_iadd, ↓w_getfield, ↓w_iaload, ↓w_iastore, ↓w_nop, ↓w_goto, ↓w_if_icmp_ge, ↓w_if_icmp_le, ↓w_invokevirtual_0, stw_0, stw_i, stw_l, stw_r, ofK0, ofK1, ofK2, lst1, lst2, lkill, kont_none, kont_some, Int.reduceToNat, List.length_cons, List.length_nil, Nat.reduceAdd, Nat.reduceLeDiff, Nat.zero_le, true_and, and_true, if_true, if_false, ne_eq, Int.reduceEq, Int.reduceNeg, not_false_eq_true, not_true_eq_false, ↓reduceIte, Int.reduceLT, Int.reduceLE, and_self, or_true, true_or, or_false, false_or, false_and, and_false, ah_t_w, ah_m_w, ah_n_w, lst1_0, List.tail_cons, w32_i, zbd, lst2_0, mt_1036a hG'.1, mt_1079a hG'.1, mt_1079b hG'.1, mf_52 hG'.1, mt_1083a hG'.1, mt_1083b hG'.1, mf_62 hG'.1, g_1079 hG', g_1083 hG', c_299 hG', hlt, ef, g]
      exact fin _ _ rfl
theorem zpy_hi (hG : MG T nw h) (hF : FV nw) (h1 : 0 ≤ m) (h2 : m < T 1072 4) : zpy T nw th m p 0 = nw 0 ∧ (∀ f, 0 ≤ f → f < 6 → 0 ≤ zpy T nw th m p (18 + f) ∧ zpy T nw th m p (18 + f) ≤ 999) ∧ (0 ≤ zpy T nw th m p 24 ∧ zpy T nw th m p 24 ≤ 40) := by
  have htk := @zwo_b2 h p T nw hG
  have hph : zph T nw m p 0 = nw 0 := by unfold zph zhf; rw [if_neg (by omega)]; exact zdo_hi hG h1 h2 (Or.inl rfl)
  have hph4 : zph T nw m p 24 = nw 24 := by
    have := hG.2.2.2.1.2.2.1
    unfold zph zhf; rw [if_neg (by omega)]; exact zdo_hi hG h1 h2 (Or.inr (by omega))
  have hphf : ∀ f, 0 ≤ f → f < 6 → 0 ≤ zph T nw m p (18 + f) ∧ zph T nw m p (18 + f) ≤ 999 := by
    intro f a b
    have hf := hF.2.1 f a b
    have ed : zdo T nw m p (18 + f) = nw (18 + f) := zdo_hi hG h1 h2 (Or.inr (by omega))
    unfold zph zhf
    split
    · split
      · omega
      · rw [ed]
        have := zharm_nn (T := T) (t := ztk T nw p) (k := zck T nw m p) (o := zoff (T 1078 (18 + 3 * (18 + f - 18))) (T 1078 (19 + 3 * (18 + f - 18))) (p % T 1074 4) (p / T 1074 4)) (day := nw 0) htk.1
        omega
    · rw [ed]; exact hf
  have h24 := hF.2.2
  unfold zpy
  by_cases e : th = 0
  · rw [if_pos e]
    unfold zkp
    rw [hph4]
    by_cases e4 : nw 24 = 40
    · rw [if_pos e4]
      refine ⟨?_, fun f a b => ?_, ?_⟩
      · unfold zke zsh; repeat' rw [if_neg (by omega)]
        exact hph
      · have := hphf f a b
        unfold zke zsh; repeat' rw [if_neg (by omega)]
        exact this
      · unfold zke zsh; repeat' rw [if_neg (by omega)]
        rw [hph4]; exact h24
    · rw [if_neg e4]
      refine ⟨?_, fun f a b => ?_, ?_⟩
      · unfold zke zin; repeat' rw [if_neg (by omega)]
        exact hph
      · have := hphf f a b
        unfold zke zin; repeat' rw [if_neg (by omega)]
        exact this
      · unfold zke zin
        rw [if_neg (by omega), if_neg (by omega), if_neg (by omega), if_neg (by omega), if_neg (by omega), if_pos rfl, hph4]; omega
  · rw [if_neg e]
    exact ⟨hph, hphf, by rw [hph4]; exact h24⟩
theorem FV_fin {r : Int → Int} (hT : TV T) (h0 : 0 ≤ r 0 ∧ r 0 < 5000) (hf : ∀ f, 0 ≤ f → f < 6 → 0 ≤ r (18 + f) ∧ r (18 + f) ≤ 999) (h24 : 0 ≤ r 24 ∧ r 24 ≤ 40) : FV (znx (zgr T (T 1072 5) r)) := by
  have h5 := hT.2.2.1
  have h99 := hT.2.2.2.2.2.2.2.2.1
  refine ⟨?_, fun f a b => ?_, ?_⟩
  · unfold znx zgr; rw [if_pos rfl, if_neg (by omega)]; omega
  · have := hf f a b
    unfold znx zgr; rw [if_neg (by omega)]
    split
    · split <;> omega
    · exact this
  · unfold znx zgr; rw [if_neg (by omega), if_neg (by omega)]; exact h24
theorem c_332 (hG : MG T nw h) (hH : HV T) (hF : FV nw) (hd : nw 0 < 5000) (e75 : ah_m h 1036 75 = th) (hc : zch h = c) (hv : zcv T c)
    (hQ : ∀ h', MG T (zdy T nw th c) h' → FV (zdy T nw th c) → Off Wy h h' → (c.1 ≠ -1 → ah_m h' 1036 77 = ztl' T nw c.2.2) → Q (.inl none) h') : wpC (d + 7) 332 [.inr (.inr 1036)] h Q := by
  have hT := hG.2.2.2.1
  have h5 := hT.2.2.1
  have hs := hG.2.2.2.2.2.2.2
  have e68 : ah_m h 1036 68 = c.1 := congrArg Prod.fst hc
  have e69 : ah_m h 1036 69 = c.2.1 := congrArg (fun q => q.2.1) hc
  have e70 : ah_m h 1036 70 = c.2.2 := congrArg (fun q => q.2.2) hc
  rw [wpC_B]; refine ⟨⟨Nat.zero_lt_succ _, Nat.le_of_ble_eq_true rfl⟩, ?_⟩; simp only [lent]
  unfold zdy at hQ
  by_cases e : c.1 = -1
  · rw [if_pos e] at hQ
    simp (disch := omega) only [q_332_0, b_332_0, q_332_29, b_332_29, ↓w_iconst, ↓w_aload_n_0, ↓w_istore_n_1, ↓w_isub, ↓w_getfield, ↓w_iaload, ↓w_iastore, ↓w_nop, ↓w_goto, ↓w_if_icmp_ne, stw_0, stw_i, stw_l, stw_r, ofK0, ofK1, ofK2, lst1, lst2, lkill, kont_none, kont_some, Int.reduceToNat, List.length_cons, List.length_nil, Nat.reduceAdd, Nat.reduceLeDiff, Nat.zero_le, true_and, and_true, if_true, if_false, ne_eq, Int.reduceEq, Int.reduceNeg, not_false_eq_true, not_true_eq_false, ↓reduceIte, Int.reduceLT, Int.reduceLE, and_self, or_true, true_or, or_false, false_or, false_and, and_false, ah_t_w, ah_m_w, ah_n_w, lst1_0, List.tail_cons, w32_i, zbd, lst2_0, mt_1036a hG.1, mt_1083a hG.1, mt_1083b hG.1, mf_62 hG.1, g_1083 hG, e68, e]
    have e1 : ah_m (ah_w h 1083 1 (1 - nw 1)) 1083 = zfs nw := by rw [ah_m_wr, g_1083 hG]; rfl
    have hO1 : Off W83 h (ah_w h 1083 1 (1 - nw 1)) := Off_w Off_rfl rfl
    have hN : NV T (zfs nw) := by
      have hN := hG.2.2.2.2
      refine ⟨fun m a b => ?_, fun m a b => ?_, fun m q a b a' b' hne => ?_, ?_⟩
      · unfold zfs; rw [if_neg (by omega), if_neg (by omega)]; exact hN.1 m a b
      · unfold zfs; rw [if_neg (by omega), if_neg (by omega)]; exact hN.2.1 m a b
      · unfold zfs; rw [if_neg (by omega), if_neg (by omega), if_neg (by omega), if_neg (by omega)]; exact hN.2.2.1 m q a b a' b' hne
      · unfold zfs; rw [if_pos rfl]; omega
    have hG1 : MG T (zfs nw) (ah_w h 1083 1 (1 - nw 1)) := MG_row hG e1 hN hO1
    have hf1 : ∀ f, 0 ≤ f → f < 6 → 0 ≤ zfs nw (18 + f) ∧ zfs nw (18 + f) ≤ 999 := fun f a b => by unfold zfs; rw [if_neg (by omega)]; exact hF.2.1 f a b
    have e0 : zfs nw 0 = nw 0 := by unfold zfs; rw [if_neg (by omega)]
    refine l_332 hG1 hf1 (by rw [e0]; have := hF.1; omega) (fun h' e' hO' => ?_) (T 1072 5).toNat 0 _ _ (by omega) (by omega) Off_rfl (by rw [zgr_0, g_1083 hG1])
    refine hQ h' (MG_83 hG1 e' (fun i a b => by unfold znx; rw [if_neg (by omega)]; exact zgr_lo b) hO') (FV_fin hT (by rw [e0]; have := hF.1; omega) hf1 (by unfold zfs; rw [if_neg (by omega)]; exact hF.2.2)) (Off_mono (fun r i w => Or.inl w) (Off_tr hO1 hO')) (fun q => absurd e q)
  · rw [if_neg e] at hQ
    rcases hv with hv | hv
    · exact absurd hv e
    · simp (disch := omega) only [q_332_0, b_332_0, q_332_25, b_332_25, ↓w_iconst, ↓w_aload_n_0, ↓w_isub, ↓w_getfield, ↓w_iaload, ↓w_iastore, ↓w_nop, ↓w_goto, ↓w_if_icmp_ne, ↓w_invokevirtual_0, stw_0, stw_i, stw_l, stw_r, ofK0, ofK1, ofK2, lst1, lst2, lkill, kont_none, kont_some, Int.reduceToNat, List.length_cons, List.length_nil, Nat.reduceAdd, Nat.reduceLeDiff, Nat.zero_le, true_and, and_true, if_true, if_false, ne_eq, Int.reduceEq, Int.reduceNeg, not_false_eq_true, not_true_eq_false, ↓reduceIte, Int.reduceLT, Int.reduceLE, and_self, or_true, true_or, or_false, false_or, false_and, and_false, ah_t_w, ah_m_w, ah_n_w, lst1_0, List.tail_cons, w32_i, zbd, lst2_0, mt_1036a hG.1, mt_1083a hG.1, mt_1083b hG.1, mf_62 hG.1, g_1083 hG, e68, e]
      refine c_333 hG hH hF e69 e70 e75 hv.2.1 hv.2.2.1 hv.2.2.2.1 hv.2.2.2.2 (fun h1 hG1 hO1 e77 => ?_)
      have hh := @zpy_hi h c.2.1 c.2.2 th T nw hG hF hv.2.1 hv.2.2.1
      simp (disch := omega) only [b_332_25, q_332_29, b_332_29, ↓w_iconst, ↓w_aload_n_0, ↓w_istore_n_1, ↓w_nop, ↓w_invokevirtual_0, stw_0, stw_i, stw_l, stw_r, ofK0, ofK1, ofK2, lst1, lst2, lkill, kont_none, kont_some, Int.reduceToNat, List.length_cons, List.length_nil, Nat.reduceAdd, Nat.reduceLeDiff, Nat.zero_le, true_and, and_true, if_true, if_false, ne_eq, Int.reduceEq, Int.reduceNeg, not_false_eq_true, not_true_eq_false, ↓reduceIte, Int.reduceLT, Int.reduceLE, and_self, or_true, true_or, or_false, false_or, false_and, and_false, ah_t_w, ah_m_w, ah_n_w, lst1_0, List.tail_cons, w32_i, zbd, lst2_0]
      refine l_332 hG1 hh.2.1 (by rw [hh.1]; have := hF.1; omega) (fun h' e' hO' => ?_) (T 1072 5).toNat 0 _ _ (by omega) (by omega) Off_rfl (by rw [zgr_0, g_1083 hG1])
      refine hQ h' (MG_83 hG1 e' (fun i a b => by unfold znx; rw [if_neg (by omega)]; exact zgr_lo b) hO') (FV_fin hT (by rw [hh.1]; have := hF.1; omega) hh.2.1 hh.2.2) (Off_tr hO1 (Off_mono (fun r i w => Or.inl w) hO')) (fun q => ?_)
      rw [hO'.2 _ _ (by unfold W83; omega)]; exact e77
/-! today's choice -/
theorem zcb_v {f : Int × Int → Int} {P : Int × Int × Int → Prop} : ∀ (l : List (Int × Int)) (n b : Int) (c : Int × Int × Int), P c → (∀ x ∈ l, ∀ k, n ≤ k → P (k, x.1, x.2)) → P (zcb f l n b c) := by
  intro l
  induction l with
  | nil => intro n b c hc _; exact hc
  | cons x l ih =>
    intro n b c hc hx
    unfold zcb
    split
    · exact ih _ _ _ (hx x List.mem_cons_self n (Int.le_refl n)) (fun y hy k hk => hx y (List.mem_cons_of_mem _ hy) k (by omega))
    · exact ih _ _ _ hc (fun y hy k hk => hx y (List.mem_cons_of_mem _ hy) k (by omega))
theorem zbe_v {dn : Nat} (hT : TV T) : zcv T (zbe T nw dn a b) := by
  unfold zbe; split
  · exact Or.inl rfl
  · refine zcb_v _ _ _ _ (Or.inl rfl) (fun x hx k hk => Or.inr ?_)
    have := zmv_mem hT hx
    exact ⟨hk, this.1, this.2.1, this.2.2.2.1, this.2.2.2.2.1⟩
theorem zcb_2 {f : Int × Int → Int} : ∀ (l : List (Int × Int)) (n b : Int) (c c' : Int × Int × Int), 0 ≤ n → (c.1 = -1 ∧ c'.1 = -1) ∨ c = c' → ((zcb f l n b c).1 = -1 ∧ (zcb f l n b c').1 = -1) ∨ zcb f l n b c = zcb f l n b c' := by
  intro l
  induction l with
  | nil => intro n b c c' hn e; exact e
  | cons x l ih =>
    intro n b c c' hn e
    rcases e with e | e
    · unfold zcb
      rw [if_pos (Or.inl e.1), if_pos (Or.inl e.2)]
      exact Or.inr rfl
    · rw [e]; exact Or.inr rfl
theorem zdy_ab {dn : Nat} : zdy T nw th (zbe T nw dn a b) = zdy T nw th (zbe T nw dn 0 0) := by
  have : ((zbe T nw dn a b).1 = -1 ∧ (zbe T nw dn 0 0).1 = -1) ∨ zbe T nw dn a b = zbe T nw dn 0 0 := by
    unfold zbe; split
    · exact Or.inl ⟨rfl, rfl⟩
    · exact zcb_2 _ _ _ _ _ (Int.le_refl 0) (Or.inl ⟨rfl, rfl⟩)
  rcases this with e | e
  · unfold zdy; rw [if_pos e.1, if_pos e.2]
  · rw [e]
/-- how deep sides look today -/
def zdd (T : Int → Int → Int) (h : AH) (s : Int) : Int := if s = ah_m h 1036 78 then ah_m h 1036 79 else T 1074 (6 + s)
theorem c_331 {D : Int} (hG : MG T nw h) (hD : zdd T h (nw 1) = D) (hD1 : 1 ≤ D) (hD3 : D ≤ 3) (hQ : ∀ h', MG T nw h' → Off Wc h h' → zch h' = zbe T nw (D - 1).toNat (ah_m h 1036 69) (ah_m h 1036 70) → Q (.inl none) h') : wpC (d + 10) 331 [.inr (.inr 1036)] h Q := by
  have hs := hG.2.2.2.2.2.2.2
  unfold zdd at hD
  rw [wpC_B]; refine ⟨⟨Nat.zero_lt_succ _, Nat.le_of_ble_eq_true rfl⟩, ?_⟩; simp only [lent]
  by_cases e : nw 1 = ah_m h 1036 78
  · rw [if_pos e] at hD
    simp (disch := omega) only [q_331_0, b_331_0, q_331_35, b_331_35, ↓w_iconst, ↓w_aload_n_0, ↓w_getfield, ↓w_iaload, ↓w_goto, ↓w_if_icmp_ne, ↓w_return, ↓w_invokevirtual_1, stw_0, stw_i, stw_l, stw_r, ofK0, ofK1, ofK2, lst1, lst2, lkill, kont_none, kont_some, Int.reduceToNat, List.length_cons, List.length_nil, Nat.reduceAdd, Nat.reduceLeDiff, Nat.zero_le, true_and, and_true, if_true, if_false, ne_eq, Int.reduceEq, Int.reduceNeg, not_false_eq_true, not_true_eq_false, ↓reduceIte, Int.reduceLT, Int.reduceLE, and_self, or_true, true_or, or_false, false_or, false_and, and_false, ah_t_w, ah_m_w, ah_n_w, lst1_0, List.tail_cons, w32_i, zbd, lst2_0, mt_1036a hG.1, mt_1083a hG.1, mt_1083b hG.1, mf_62 hG.1, g_1083 hG, e, hD]
    refine c_323 (dn := (D - 1).toNat) hG (by omega) (by omega) (fun h' a b c => ?_)
    simp (disch := omega) only [b_331_35, ↓w_return, ↓w_invokevirtual_1, stw_0, stw_i, stw_l, stw_r, ofK0, ofK1, ofK2, lst1, lst2, lkill, kont_none, kont_some, Int.reduceToNat, List.length_cons, List.length_nil, Nat.reduceAdd, Nat.reduceLeDiff, Nat.zero_le, true_and, and_true, if_true, if_false, ne_eq, Int.reduceEq, Int.reduceNeg, not_false_eq_true, not_true_eq_false, ↓reduceIte, Int.reduceLT, Int.reduceLE, and_self, or_true, true_or, or_false, false_or, false_and, and_false, ah_t_w, ah_m_w, ah_n_w, lst1_0, List.tail_cons, w32_i, zbd, lst2_0]
    exact hQ h' a b c
  · rw [if_neg e] at hD
    simp (disch := omega) only [q_331_0, b_331_0, q_331_21, b_331_21, q_331_35, b_331_35, ↓w_iconst, ↓w_bipush, ↓w_aload_n_0, ↓w_iadd, ↓w_getfield, ↓w_iaload, ↓w_nop, ↓w_goto, ↓w_if_icmp_ne, ↓w_return, ↓w_invokevirtual_1, stw_0, stw_i, stw_l, stw_r, ofK0, ofK1, ofK2, lst1, lst2, lkill, kont_none, kont_some, Int.reduceToNat, List.length_cons, List.length_nil, Nat.reduceAdd, Nat.reduceLeDiff, Nat.zero_le, true_and, and_true, if_true, if_false, ne_eq, Int.reduceEq, Int.reduceNeg, not_false_eq_true, not_true_eq_false, ↓reduceIte, Int.reduceLT, Int.reduceLE, and_self, or_true, true_or, or_false, false_or, false_and, and_false, ah_t_w, ah_m_w, ah_n_w, lst1_0, List.tail_cons, w32_i, zbd, lst2_0, mt_1036a hG.1, mt_1074a hG.1, mt_1074b hG.1, mf_47 hG.1, mt_1083a hG.1, mt_1083b hG.1, mf_62 hG.1, g_1074 hG, g_1083 hG, e, hD]
    refine c_323 (dn := (D - 1).toNat) hG (by omega) (by omega) (fun h' a b c => ?_)
    simp (disch := omega) only [b_331_35, ↓w_return, ↓w_invokevirtual_1, stw_0, stw_i, stw_l, stw_r, ofK0, ofK1, ofK2, lst1, lst2, lkill, kont_none, kont_some, Int.reduceToNat, List.length_cons, List.length_nil, Nat.reduceAdd, Nat.reduceLeDiff, Nat.zero_le, true_and, and_true, if_true, if_false, ne_eq, Int.reduceEq, Int.reduceNeg, not_false_eq_true, not_true_eq_false, ↓reduceIte, Int.reduceLT, Int.reduceLE, and_self, or_true, true_or, or_false, false_or, false_and, and_false, ah_t_w, ah_m_w, ah_n_w, lst1_0, List.tail_cons, w32_i, zbd, lst2_0]
    exact hQ h' a b c
end DAY2
