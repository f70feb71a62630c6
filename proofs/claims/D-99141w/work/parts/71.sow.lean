/-! ===== M: sow ===== -/
def zlh (T : Int → Int → Int) (nw : Int → Int) (m p n : Int) (hm : Int → Int) : Int → Int := fun k => if 0 ≤ k ∧ k < n then hm k + zharm T (ztk T nw p) (zck T nw m p) (zoff (k % T 1074 4) (k / T 1074 4) (p % T 1074 4) (p / T 1074 4)) (nw 0) else hm k
def zsw (T : Int → Int → Int) (D0 D1 : Int) : Nat → (Int → Int) → (Int → Int) → (Int → Int)
  | 0, _, hm => hm
  | n + 1, nw, hm => zsw T D0 D1 n (zdy T nw 1 (zto T D0 D1 nw)) (if (zto T D0 D1 nw).1 = -1 then hm else zlh T nw (zto T D0 D1 nw).2.1 (zto T D0 D1 nw).2.2 (zP T) hm)
def zmn (hm : Int → Int) : Nat → Int → Int → Int
  | 0, _, b => b
  | j + 1, k, b => zmn hm j (k + 1) (if hm k < hm b then k else b)
def zsow (T : Int → Int → Int) (D0 D1 : Int) (nw : Int → Int) (n w : Int) : Int :=
  let hm := zsw T D0 D1 n.toNat nw (fun _ => 0)
  let b := zmn hm (zP T - 1) 1 0
  if w = 0 then b % T 1074 4 else if w = 1 then b / T 1074 4 else if 999999 < hm b then 999999 else hm b
/-- harms lie in their row -/
def HR (hm : Int → Int) (h : AH) : Prop := ∀ i, 0 ≤ i → i < 25 → ah_m h 1090 i = hm i
section SOW
variable {d : Nat} {h h0 : AH} {Q : QQ} {x y z m k s l w a b v n t p th D0 D1 f : Int} {T : Int → Int → Int} {nw g : Int → Int} {c : Int × Int × Int} {hm : Int → Int}
set_option maxHeartbeats 2000000
theorem zrun_fit {pt of : Int → Int} {hmb : Bool} : ∀ (cs : List Int) (st : List Int) (ts ts' : List Bool), zfit st ts → ztl hmb cs ts = some ts' → zfit (zrun pt of cs st) ts' := by
  intro cs
  induction cs with
  | nil => intro st ts ts' hf e; simp only [ztl] at e; injection e with e; subst e; exact hf
  | cons c cs ih =>
    intro st ts ts' hf e
    simp only [ztl] at e
    cases e2 : zty hmb c ts with
    | none => rw [e2] at e; cases e
    | some ts2 =>
      rw [e2] at e
      exact ih _ _ _ (zst_fit hf e2) e
theorem zharm_b {o day : Int} (hH : HV T) (ht : 0 ≤ t ∧ t ≤ 99) : 0 ≤ zharm T t k o day ∧ zharm T t k o day ≤ 1000000 := by
  unfold zharm
  by_cases e : T 1080 1 = -1
  · rw [if_pos e]; omega
  · rw [if_neg e]
    rcases hH with hH | hH
    · exact absurd hH e
    · have := zrun_fit (pt := zhp t k o day) (of := fun _ => 0) _ [] [] _ trivial hH.2.2.2
      generalize zrun (zhp t k o day) (fun _ => 0) (zhl T) [] = r at this
      match r, this with
      | [v], hf =>
        have hv : -1000000 ≤ v ∧ v ≤ 1000000 := by simpa using hf.1
        show 0 ≤ (if v < 0 then 0 else v) ∧ (if v < 0 then 0 else v) ≤ 1000000
        split <;> omega
def Wl (r i : Int) : Prop := r = 1090 ∨ Wq r i
theorem l_347 {h1 : AH} (hG : MG T nw h1) (hH : HV T) (hp : 0 ≤ p) (hp2 : p < zP T) (e71 : ah_m h1 1036 71 = ztk T nw p) (e72 : ah_m h1 1036 72 = zck T nw m p) (hd : 0 ≤ nw 0 ∧ nw 0 ≤ 5000) (hb : ∀ k, 0 ≤ hm k ∧ hm k ≤ 100000000) (hr : HR hm h1)
    (hQ : ∀ h', HR (zlh T nw m p (zP T) hm) h' → Off Wl h1 h' → Q (.inl none) h') :
    ∀ (j : Nat) (f : Int) h', 0 ≤ f → f + j = zP T → Off Wl h1 h' → HR (zlh T nw m p f hm) h' → wpB (d + 5) 347 93 [some (.inr (.inr 1036)), some (.inl (p % T 1074 4)), some (.inl (p / T 1074 4)), some (.inl t), some (.inl f)] [] h' Q := by
  have hT := hG.2.2.2.1
  have hP := zP_b hG
  have hPi := zP_i hG
  have b4 := hT.2.2.2.1; have b5 := hT.2.2.2.2.1
  intro j
  induction j with
  | zero =>
    intro f h' f0 f1 hO e
    have hG' : MG T nw h' := MG_off hG hO (fun r i w => by unfold Wl Wq at w; unfold fre; omega)
    have hlt : ¬ f < (zP T : Int) := by omega
    have ef : f = (zP T : Int) := by omega
    simp (disch := omega) only [q_347_93, b_347_93, q_347_142, b_347_142, ↓w_iconst, ↓w_aload_n_0, ↓w_iload_n_1, ↓w_iload_n_2, ↓w_iload_4, ↓w_iinc_4, ↓w_dup2, ↓w_ladd, ↓w_idiv, ↓w_irem, ↓w_getfield, ↓w_iaload, ↓w_laload, ↓w_lastore, ↓w_goto, ↓w_if_icmp_ge, ↓w_return, ↓w_invokevirtual_0, ↓w_invokevirtual_4, stw_0, stw_i, stw_l, stw_r, ofK0, ofK1, ofK2, lst1, lst2, lkill, kont_none, kont_some, Int.reduceToNat, List.length_cons, List.length_nil, Nat.reduceAdd, Nat.reduceLeDiff, Nat.zero_le, true_and, and_true, if_true, if_false, ne_eq, Int.reduceEq, Int.reduceNeg, not_false_eq_true, not_true_eq_false, ↓reduceIte, Int.reduceLT, Int.reduceLE, and_self, or_true, true_or, or_false, false_or, false_and, and_false, ah_t_w, ah_m_w, ah_n_w, lst1_0, List.tail_cons, w32_i, zbd, lst2_0, mt_1036a hG'.1, mt_1074a hG'.1, mt_1074b hG'.1, mf_47 hG'.1, mt_1090a hG'.1, mt_1090b hG'.1, mf_76 hG'.1, g_1074 hG', c_289 hG', hlt]
    exact hQ _ (ef ▸ e) hO
  | succ j ih =>
    intro f h' f0 f1 hO e
    have hG' : MG T nw h' := MG_off hG hO (fun r i w => by unfold Wl Wq at w; unfold fre; omega)
    have hlt : f < (zP T : Int) := by omega
    obtain ⟨hC, hx, hy, t1, t2⟩ := zkk hG f0 hlt
    obtain ⟨_, hx', hy', _, _⟩ := zkk hG hp hp2
    have hC' : ¬ T 1074 4 = 0 := by omega
    have f71 : ah_m h' 1036 71 = ztk T nw p := by rw [hO.2 _ _ (by unfold Wl Wq; omega)]; exact e71
    have f72 : ah_m h' 1036 72 = zck T nw m p := by rw [hO.2 _ _ (by unfold Wl Wq; omega)]; exact e72
    have htk := @zwo_b2 h1 p T nw hG
    have ef : ah_m h' 1090 f = hm f := by rw [e f f0 (by omega)]; unfold zlh; rw [if_neg (by omega)]
    rw [q_347_93]
    simp (disch := omega) only [b_347_93, ↓w_iconst, ↓w_aload_n_0, ↓w_iload_n_1, ↓w_iload_n_2, ↓w_iload_4, ↓w_iinc_4, ↓w_dup2, ↓w_ladd, ↓w_idiv, ↓w_irem, ↓w_getfield, ↓w_iaload, ↓w_laload, ↓w_lastore, ↓w_goto, ↓w_if_icmp_ge, ↓w_invokevirtual_0, ↓w_invokevirtual_4, stw_0, stw_i, stw_l, stw_r, ofK0, ofK1, ofK2, lst1, lst2, lkill, kont_none, kont_some, Int.reduceToNat, List.length_cons, List.length_nil, Nat.reduceAdd, Nat.reduceLeDiff, Nat.zero_le, true_and, and_true, if_true, if_false, ne_eq, Int.reduceEq, Int.reduceNeg, not_false_eq_true, not_true_eq_false, ↓reduceIte, Int.reduceLT, Int.reduceLE, and_self, or_true, true_or, or_false, false_or, false_and, and_false, ah_t_w, ah_m_w, ah_n_w, lst1_0, List.tail_cons, w32_i, zbd, lst2_0, mt_1036a hG'.1, mt_1074a hG'.1, mt_1074b hG'.1, mf_47 hG'.1, mt_1090a hG'.1, mt_1090b hG'.1, mf_76 hG'.1, g_1074 hG', c_289 hG', hlt, hC', t1, t2, ef]
    refine c_334 hG' hH f71 f72 ⟨htk.1, by omega⟩ zb_b hd (by omega) (by omega) (by omega) (by omega) (fun h2 hG2 hO2 => ?_)
    have hz := @zharm_b (zck T nw m p) (ztk T nw p) T (zoff (f % T 1074 4) (f / T 1074 4) (p % T 1074 4) (p / T 1074 4)) (nw 0) hH htk
    have hbf := hb f
    have e64 : w64 (hm f + zharm T (ztk T nw p) (zck T nw m p) (zoff (f % T 1074 4) (f / T 1074 4) (p % T 1074 4) (p / T 1074 4)) (nw 0)) = hm f + zharm T (ztk T nw p) (zck T nw m p) (zoff (f % T 1074 4) (f / T 1074 4) (p % T 1074 4) (p / T 1074 4)) (nw 0) := w64_i (by omega) (by omega)
    simp (disch := omega) only [b_347_93, ↓w_iconst, ↓w_aload_n_0, ↓w_iload_n_1, ↓w_iload_n_2, ↓w_iload_4, ↓w_iinc_4, ↓w_dup2, ↓w_ladd, ↓w_idiv, ↓w_irem, ↓w_getfield, ↓w_iaload, ↓w_laload, ↓w_lastore, ↓w_goto, ↓w_if_icmp_ge, ↓w_invokevirtual_0, ↓w_invokevirtual_4, stw_0, stw_i, stw_l, stw_r, ofK0, ofK1, ofK2, lst1, lst2, lkill, kont_none, kont_some, Int.reduceToNat, List.length_cons, List.length_nil, Nat.reduceAdd, Nat.reduceLeDiff, Nat.zero_le, true_and, and_true, if_true, if_false, ne_eq, Int.reduceEq, Int.reduceNeg, not_false_eq_true, not_true_eq_false, ↓reduceIte, Int.reduceLT, Int.reduceLE, and_self, or_true, true_or, or_false, false_or, false_and, and_false, ah_t_w, ah_m_w, ah_n_w, lst1_0, List.tail_cons, w32_i, zbd, lst2_0, mt_1036a hG2.1, mt_1074a hG2.1, mt_1074b hG2.1, mf_47 hG2.1, mt_1090a hG2.1, mt_1090b hG2.1, mf_76 hG2.1, g_1074 hG2, c_289 hG2, e64]
    refine ih (f + 1) _ (by omega) (by omega) (Off_w (Off_tr hO (Off_mono (fun r i w => Or.inr w) hO2)) (Or.inl rfl)) (fun i a b => ?_)
    rw [ah_m_w]
    by_cases ei : i = f
    · subst ei
      rw [if_pos ⟨rfl, rfl⟩]
      unfold zlh; rw [if_pos (by omega)]
    · rw [if_neg (fun q => ei q.2), hO2.2 _ _ (by unfold Wq; omega), e i a b]
      have e4 : (0 ≤ i ∧ i < f + 1) = (0 ≤ i ∧ i < f) := by simp; omega
      unfold zlh; simp only [e4]
theorem c_347 (hG : MG T nw h) (hH : HV T) (hF : FV nw) (e69 : ah_m h 1036 69 = m) (e70 : ah_m h 1036 70 = p) (h1 : 0 ≤ m) (h2 : m < T 1072 4) (hp : 0 ≤ p) (hp2 : p < zP T) (hb : ∀ k, 0 ≤ hm k ∧ hm k ≤ 100000000) (hr : HR hm h)
    (hQ : ∀ h', MG T nw h' → HR (zlh T nw m p (zP T) hm) h' → Off (fun r i => r = 1090 ∨ (1085 ≤ r ∧ r ≤ 1088) ∨ Wq r i ∨ (r = 1036 ∧ (i = 71 ∨ i = 72))) h h' → Q (.inl none) h') : wpC (d + 6) 347 [.inr (.inr 1036)] h Q := by
  obtain ⟨hC, hx, hy, t1, t2⟩ := zkk hG hp hp2
  have b4 := hG.2.2.2.1.2.2.2.1; have b5 := hG.2.2.2.1.2.2.2.2.1; have h8 := hG.2.2.2.1.2.1
  have hT := hG.2.2.2.1
  have hC' : ¬ T 1074 4 = 0 := by omega
  have hzb := @zat_b h (p % T 1074 4) (p / T 1074 4) T nw hG
  have hPi := zP_i hG
  rw [wpC_B]; refine ⟨⟨Nat.zero_lt_succ _, Nat.le_of_ble_eq_true rfl⟩, ?_⟩; simp only [lent]
  have fin : ∀ tz, wpB (d + 5) 347 47 [some (.inr (.inr 1036)), some (.inl (p % T 1074 4)), some (.inl (p / T 1074 4)), some (.inl tz)] [.inr (.inl (ztk T nw p)), .inr (.inr 1036)] h Q := by
    intro tz
    have hO1 : Off (fun r i => r = 1036 ∧ i = 71) h (ah_w h 1036 71 (ztk T nw p)) := Off_w Off_rfl (by omega)
    have g71 : ah_m (ah_w h 1036 71 (ztk T nw p)) 1036 71 = ztk T nw p := rfl
    simp (disch := omega) only [q_347_47, b_347_47, ↓w_iconst, ↓w_lconst, ↓w_aload_n_0, ↓w_getfield, ↓w_putfield_1, ↓w_iaload, ↓w_goto, ↓w_ifCond_eq, ↓w_invokevirtual_1, ↓w_invokevirtual_3, stw_0, stw_i, stw_l, stw_r, ofK0, ofK1, ofK2, lst1, lst2, lkill, kont_none, kont_some, Int.reduceToNat, List.length_cons, List.length_nil, Nat.reduceAdd, Nat.reduceLeDiff, Nat.zero_le, true_and, and_true, if_true, if_false, ne_eq, Int.reduceEq, Int.reduceNeg, not_false_eq_true, not_true_eq_false, ↓reduceIte, Int.reduceLT, Int.reduceLE, and_self, or_true, true_or, or_false, false_or, false_and, and_false, ah_t_w, ah_m_w, ah_n_w, lst1_0, List.tail_cons, w32_i, zbd, lst2_0, mt_1036a hG.1, mt_1083a hG.1, mt_1083b hG.1, mf_62 hG.1, g_1083 hG, c_310 hG, e69, e70]
    generalize ah_w h 1036 71 (ztk T nw p) = h1' at hO1 g71
    have hG1 : MG T nw h1' := MG_off hG hO1 (fun r i w => by unfold fre; omega)
    refine c_309 hG1 h1 (by omega) hp hp2 (by decide) (by decide) (fun h2' hD => ?_)
    have hG2 := MG_do hG1 h1 h2 hp hp2 hD
    have hO2 := hD.2.2.2.2.2
    have fin2 : wpB (d + 5) 347 82 [some (.inr (.inr 1036)), some (.inl (p % T 1074 4)), some (.inl (p / T 1074 4)), some (.inl tz)] [.inr (.inl (zck T nw m p)), .inr (.inr 1036)] h2' Q := by
      have hck : 0 ≤ zck T nw m p ∧ zck T nw m p ≤ 1 := zb_b
      have hG3 : MG T (zdo T nw m p) (ah_w h2' 1036 72 (zck T nw m p)) := MG_f hG2 (by omega)
      have hO3 : Off (fun r i => r = 1036 ∧ i = 72) h2' (ah_w h2' 1036 72 (zck T nw m p)) := Off_w Off_rfl (by omega)
      have g72 : ah_m (ah_w h2' 1036 72 (zck T nw m p)) 1036 72 = zck T nw m p := rfl
      simp (disch := omega) only [q_347_82, b_347_82, ↓w_iconst, ↓w_aload_n_0, ↓w_istore, ↓w_putfield_1, ↓w_nop, ↓w_invokevirtual_1, stw_0, stw_i, stw_l, stw_r, ofK0, ofK1, ofK2, lst1, lst2, lkill, kont_none, kont_some, Int.reduceToNat, List.length_cons, List.length_nil, Nat.reduceAdd, Nat.reduceLeDiff, Nat.zero_le, true_and, and_true, if_true, if_false, ne_eq, Int.reduceEq, Int.reduceNeg, not_false_eq_true, not_true_eq_false, ↓reduceIte, Int.reduceLT, Int.reduceLE, and_self, or_true, true_or, or_false, false_or, false_and, and_false, ah_t_w, ah_m_w, ah_n_w, lst1_0, List.tail_cons, w32_i, zbd, lst2_0, mt_1036a hG2.1]
      generalize ah_w h2' 1036 72 (zck T nw m p) = h3 at hG3 hO3 g72
      have dd : ah_m h3 1085 4 = m ∧ ah_m h3 1088 4 = zat T nw (p % T 1074 4) (p / T 1074 4) := by
        rw [hO3.2 _ _ (by omega), hO3.2 _ _ (by omega)]
        exact ⟨hD.2.1, hD.2.2.2.2.1⟩
      refine c_311 hG3.1 (by decide) (by decide) (by rw [dd.1]; omega) (by rw [dd.2]; omega) (by rw [g_1083 hG3]; have := hG3.2.2.2.2.2.2.2; omega) (fun h4 e4 hO4 => ?_)
      obtain ⟨e5, hO5⟩ := DO_back h1 hD hO3 (fun i w => by omega) (fun r w => by omega) e4 hO4 (g_1083 hG1)
      have hG5 : MG T nw h4 := MG_gen hG1 e5 hG.2.2.2.2 hO5 (fun r i w => by unfold Wd at w; unfold fre; omega)
      have k71 : ah_m h4 1036 71 = ztk T nw p := by rw [hO5.2 _ _ (by unfold Wd; omega)]; exact g71
      have k72 : ah_m h4 1036 72 = zck T nw m p := by rw [hO4.2 _ _ (by omega)]; exact g72
      have hr4 : HR hm h4 := fun i a b => by rw [hO5.2 _ _ (by unfold Wd; omega), hO1.2 _ _ (by omega)]; exact hr i a b
      simp (disch := omega) only [b_347_82, ↓w_iconst, ↓w_aload_n_0, ↓w_istore, ↓w_putfield_1, ↓w_nop, ↓w_invokevirtual_1, stw_0, stw_i, stw_l, stw_r, ofK0, ofK1, ofK2, lst1, lst2, lkill, kont_none, kont_some, Int.reduceToNat, List.length_cons, List.length_nil, Nat.reduceAdd, Nat.reduceLeDiff, Nat.zero_le, true_and, and_true, if_true, if_false, ne_eq, Int.reduceEq, Int.reduceNeg, not_false_eq_true, not_true_eq_false, ↓reduceIte, Int.reduceLT, Int.reduceLE, and_self, or_true, true_or, or_false, false_or, false_and, and_false, ah_t_w, ah_m_w, ah_n_w, lst1_0, List.tail_cons, w32_i, zbd, lst2_0]
      refine l_347 hG5 hH hp hp2 k71 k72 hF.1 hb hr4 (fun h6 hr6 hO6 => ?_) (zP T) 0 _ (by omega) (by omega) Off_rfl (fun i a b => by rw [hr4 i a b]; unfold zlh; rw [if_neg (by omega)])
      refine hQ h6 (MG_off hG5 hO6 (fun r i w => by unfold Wl Wq at w; unfold fre; omega)) hr6 ?_
      refine Off_tr (Off_mono (fun r i w => by omega) hO1) (Off_tr (Off_mono (fun r i w => ?_) hO5) (Off_mono (fun r i w => ?_) hO6))
      · unfold Wd at w; omega
      · unfold Wl at w; rcases w with w | w
        · exact Or.inl w
        · exact Or.inr (Or.inr (Or.inl w))
    cases e8 : zchk T (zdo T nw m p) (zdo T nw m p 1)
    · have : zck T nw m p = 0 := by unfold zck; rw [e8]; rfl
      rw [this] at fin2
      simp (disch := omega) only [b_347_47, q_347_81, b_347_81, ↓w_iconst, ↓w_lconst, ↓w_aload_n_0, ↓w_getfield, ↓w_putfield_1, ↓w_iaload, ↓w_nop, ↓w_goto, ↓w_ifCond_eq, ↓w_invokevirtual_1, ↓w_invokevirtual_3, stw_0, stw_i, stw_l, stw_r, ofK0, ofK1, ofK2, lst1, lst2, lkill, kont_none, kont_some, Int.reduceToNat, List.length_cons, List.length_nil, Nat.reduceAdd, Nat.reduceLeDiff, Nat.zero_le, true_and, and_true, if_true, if_false, ne_eq, Int.reduceEq, Int.reduceNeg, not_false_eq_true, not_true_eq_false, ↓reduceIte, Int.reduceLT, Int.reduceLE, and_self, or_true, true_or, or_false, false_or, false_and, and_false, ah_t_w, ah_m_w, ah_n_w, lst1_0, List.tail_cons, w32_i, zbd, lst2_0, mt_1036a hG2.1, mt_1083a hG2.1, mt_1083b hG2.1, mf_62 hG2.1, g_1083 hG2, c_310 hG2, e8, zb_f]
      exact fin2
    · have : zck T nw m p = 1 := by unfold zck; rw [e8]; rfl
      rw [this] at fin2
      simp (disch := omega) only [b_347_47, q_347_81, b_347_81, ↓w_iconst, ↓w_lconst, ↓w_aload_n_0, ↓w_getfield, ↓w_putfield_1, ↓w_iaload, ↓w_nop, ↓w_goto, ↓w_ifCond_eq, ↓w_invokevirtual_1, ↓w_invokevirtual_3, stw_0, stw_i, stw_l, stw_r, ofK0, ofK1, ofK2, lst1, lst2, lkill, kont_none, kont_some, Int.reduceToNat, List.length_cons, List.length_nil, Nat.reduceAdd, Nat.reduceLeDiff, Nat.zero_le, true_and, and_true, if_true, if_false, ne_eq, Int.reduceEq, Int.reduceNeg, not_false_eq_true, not_true_eq_false, ↓reduceIte, Int.reduceLT, Int.reduceLE, and_self, or_true, true_or, or_false, false_or, false_and, and_false, ah_t_w, ah_m_w, ah_n_w, lst1_0, List.tail_cons, w32_i, zbd, lst2_0, mt_1036a hG2.1, mt_1083a hG2.1, mt_1083b hG2.1, mf_62 hG2.1, g_1083 hG2, c_310 hG2, e8, zb_t]
      exact fin2
  by_cases e9 : zat T nw (p % T 1074 4) (p / T 1074 4) = -1
  · have k1 : ztk T nw p = 0 := by unfold ztk; rw [if_pos e9]
    rw [k1] at fin
    simp (disch := omega) only [q_347_0, b_347_0, ↓w_iconst, ↓w_lconst, ↓w_aload_n_0, ↓w_iload_n_1, ↓w_iload_n_2, ↓w_iload_n_3, ↓w_istore_n_1, ↓w_istore_n_2, ↓w_istore_n_3, ↓w_idiv, ↓w_irem, ↓w_getfield, ↓w_iaload, ↓w_goto, ↓w_if_icmp_ne, ↓w_invokevirtual_2, stw_0, stw_i, stw_l, stw_r, ofK0, ofK1, ofK2, lst1, lst2, lkill, kont_none, kont_some, Int.reduceToNat, List.length_cons, List.length_nil, Nat.reduceAdd, Nat.reduceLeDiff, Nat.zero_le, true_and, and_true, if_true, if_false, ne_eq, Int.reduceEq, Int.reduceNeg, not_false_eq_true, not_true_eq_false, ↓reduceIte, Int.reduceLT, Int.reduceLE, and_self, or_true, true_or, or_false, false_or, false_and, and_false, ah_t_w, ah_m_w, ah_n_w, lst1_0, List.tail_cons, w32_i, zbd, lst2_0, mt_1036a hG.1, mt_1074a hG.1, mt_1074b hG.1, mf_47 hG.1, g_1074 hG, c_296 hG, e70, hC', t1, t2, e9]
    exact fin _
  · have k1 : ztk T nw p = zwo T (zat T nw (p % T 1074 4) (p / T 1074 4)) := by unfold ztk; rw [if_neg e9]
    rw [k1] at fin
    simp (disch := omega) only [q_347_0, b_347_0, q_347_41, b_347_41, ↓w_iconst, ↓w_lconst, ↓w_aload_n_0, ↓w_iload_n_1, ↓w_iload_n_2, ↓w_iload_n_3, ↓w_istore_n_1, ↓w_istore_n_2, ↓w_istore_n_3, ↓w_idiv, ↓w_irem, ↓w_i2l, ↓w_getfield, ↓w_iaload, ↓w_nop, ↓w_goto, ↓w_if_icmp_ne, ↓w_invokevirtual_1, ↓w_invokevirtual_2, stw_0, stw_i, stw_l, stw_r, ofK0, ofK1, ofK2, lst1, lst2, lkill, kont_none, kont_some, Int.reduceToNat, List.length_cons, List.length_nil, Nat.reduceAdd, Nat.reduceLeDiff, Nat.zero_le, true_and, and_true, if_true, if_false, ne_eq, Int.reduceEq, Int.reduceNeg, not_false_eq_true, not_true_eq_false, ↓reduceIte, Int.reduceLT, Int.reduceLE, and_self, or_true, true_or, or_false, false_or, false_and, and_false, ah_t_w, ah_m_w, ah_n_w, lst1_0, List.tail_cons, w32_i, zbd, lst2_0, mt_1036a hG.1, mt_1074a hG.1, mt_1074b hG.1, mf_47 hG.1, g_1074 hG, c_296 hG, c_315 hG, e70, hC', t1, t2, e9]
    exact fin _
theorem t_329' (hG : MG T nw h) (hQ : ∀ h', MG T nw h' → Asd nw h' → Off (fun r i => r = 1084 ∨ (r = 1036 ∧ i = 75)) h h' → zdd T h' = zdd T h → Q (.inl none) h') : wpC (d + 1) 329 [.inr (.inr 1036)] h Q := by
  refine c_329 hG.1 (fun h' hO hi e => ?_)
  refine hQ h' (MG_off hG hO (fun r i w => by unfold fre; omega)) ⟨fun i a b => ?_, e⟩ hO (zdd_off hO (fun i a => by omega))
  rw [hi i a b, g_1083 hG]
theorem zbe_ab {dn : Nat} : ((zbe T nw dn a b).1 = -1 ∧ (zbe T nw dn 0 0).1 = -1) ∨ zbe T nw dn a b = zbe T nw dn 0 0 := by
  unfold zbe; split
  · exact Or.inl ⟨rfl, rfl⟩
  · exact zcb_2 _ _ _ _ _ (Int.le_refl 0) (Or.inl ⟨rfl, rfl⟩)
theorem zlh_b {B : Int} (hG : MG T nw h) (hH : HV T) (hb : ∀ k, 0 ≤ hm k ∧ hm k ≤ B) : ∀ k, 0 ≤ zlh T nw m p n hm k ∧ zlh T nw m p n hm k ≤ B + 1000000 := by
  intro k
  have := hb k
  have hz := @zharm_b (zck T nw m p) (ztk T nw p) T (zoff (k % T 1074 4) (k / T 1074 4) (p % T 1074 4) (p / T 1074 4)) (nw 0) hH (zwo_b2 hG)
  unfold zlh; split <;> omega
def WS (r i : Int) : Prop := WD r i ∨ r = 1090
theorem WS_A {r i : Int} (w : WS r i) : r ≠ 1084 ∧ (r = 1036 → i ≠ 75) := by unfold WS WD Wc Wy Wq at w; omega
theorem l_346b (hH : HV T) (hD0 : zdd T h 0 = D0) (hD1 : zdd T h 1 = D1) (b0 : 1 ≤ D0 ∧ D0 ≤ 3) (b1 : 1 ≤ D1 ∧ D1 ≤ 3) (e75 : ah_m h 1036 75 = 1) (hn : 0 ≤ n ∧ n ≤ 20) {R : Int → Int}
    (hQ : ∀ h' nd, MG T nd h' → (∀ i, i < 0 ∨ 24 ≤ i → nd i = ah_m h 1083 i) → HR R h' → (∀ k, 0 ≤ R k ∧ R k ≤ 100000000) → Off WS h h' → wpB (d + 11) 346 83 [some (.inr (.inr 1036)), some (.inl n), some (.inl w), some (.inl n)] [] h' Q) :
    ∀ (j : Nat) (k : Int) (nw hm : Int → Int) h', 0 ≤ k → k + j = n → MG T nw h' → FV nw → nw 0 + j ≤ 5000 → Off WS h h' → (∀ i, i < 0 ∨ 24 ≤ i → nw i = ah_m h 1083 i) → HR hm h' → (∀ q, 0 ≤ hm q ∧ hm q ≤ 1000000 * k) → zsw T D0 D1 j nw hm = R → wpB (d + 11) 346 52 [some (.inr (.inr 1036)), some (.inl n), some (.inl w), some (.inl k)] [] h' Q := by
  intro j
  induction j with
  | zero =>
    intro k nw hm h' k0 k1 hG hF hd hO hth hr hb hR
    have hlt : ¬ k < n := by omega
    have ek : k = n := by omega
    subst ek
    simp (disch := omega) only [q_346_52, b_346_52, ↓w_iconst, ↓w_aload_n_0, ↓w_iload_n_1, ↓w_iload_n_3, ↓w_getfield, ↓w_nop, ↓w_if_icmp_eq, ↓w_if_icmp_ge, ↓w_invokevirtual_0, stw_0, stw_i, stw_l, stw_r, ofK0, ofK1, ofK2, lst1, lst2, lkill, kont_none, kont_some, Int.reduceToNat, List.length_cons, List.length_nil, Nat.reduceAdd, Nat.reduceLeDiff, Nat.zero_le, true_and, and_true, if_true, if_false, ne_eq, Int.reduceEq, Int.reduceNeg, not_false_eq_true, not_true_eq_false, ↓reduceIte, Int.reduceLT, Int.reduceLE, and_self, or_true, true_or, or_false, false_or, false_and, and_false, ah_t_w, ah_m_w, ah_n_w, lst1_0, List.tail_cons, w32_i, zbd, lst2_0, hlt]
    simp only [zsw] at hR
    subst hR
    exact hQ _ _ hG hth hr (fun q => by have := hb q; omega) hO
  | succ j ih =>
    intro k nw hm h' k0 k1 hG hF hd hO hth hr hb hR
    have hlt : k < n := by omega
    have hT := hG.2.2.2.1
    have hs := hG.2.2.2.2.2.2.2
    have hdd : zdd T h' = zdd T h := zdd_off hO (fun i a => by unfold WS WD Wc Wy Wq; omega)
    have hDD : zdd T h' (nw 1) = if nw 1 = 0 then D0 else D1 := by
      rw [hdd]; rcases hs with e | e <;> rw [e]
      · rw [if_pos rfl]; exact hD0
      · rw [if_neg (by decide)]; exact hD1
    have hbd : 1 ≤ (if nw 1 = 0 then D0 else D1) ∧ (if nw 1 = 0 then D0 else D1) ≤ 3 := by split <;> assumption
    rw [q_346_52]
    simp (disch := omega) only [b_346_52, ↓w_iconst, ↓w_aload_n_0, ↓w_iload_n_1, ↓w_iload_n_3, ↓w_getfield, ↓w_nop, ↓w_if_icmp_eq, ↓w_if_icmp_ge, ↓w_invokevirtual_0, stw_0, stw_i, stw_l, stw_r, ofK0, ofK1, ofK2, lst1, lst2, lkill, kont_none, kont_some, Int.reduceToNat, List.length_cons, List.length_nil, Nat.reduceAdd, Nat.reduceLeDiff, Nat.zero_le, true_and, and_true, if_true, if_false, ne_eq, Int.reduceEq, Int.reduceNeg, not_false_eq_true, not_true_eq_false, ↓reduceIte, Int.reduceLT, Int.reduceLE, and_self, or_true, true_or, or_false, false_or, false_and, and_false, ah_t_w, ah_m_w, ah_n_w, lst1_0, List.tail_cons, w32_i, zbd, lst2_0, mt_1036a hG.1, hlt]
    refine c_331 hG hDD hbd.1 hbd.2 (fun h1 hG1 hO1 hch => ?_)
    generalize ea : ah_m h' 1036 69 = a at hch
    generalize eb : ah_m h' 1036 70 = b at hch
    have hv := @zbe_v a b T nw ((if nw 1 = 0 then D0 else D1) - 1).toNat hT
    have hO1' : Off WS h h1 := Off_tr hO (Off_mono (fun r i w => Or.inl (Or.inl w)) hO1)
    have hab := @zbe_ab a b T nw ((if nw 1 = 0 then D0 else D1) - 1).toNat
    have ezt : zto T D0 D1 nw = zbe T nw ((if nw 1 = 0 then D0 else D1) - 1).toNat 0 0 := rfl
    rw [← ezt] at hab
    have edy : zdy T nw 1 (zbe T nw ((if nw 1 = 0 then D0 else D1) - 1).toNat a b) = zdy T nw 1 (zto T D0 D1 nw) := zdy_ab
    generalize zbe T nw ((if nw 1 = 0 then D0 else D1) - 1).toNat a b = c at hch hv hab edy
    have e68 : ah_m h1 1036 68 = c.1 := congrArg Prod.fst hch
    have hr1 : HR hm h1 := fun i a b => by rw [hO1.2 _ _ (by unfold Wc; omega)]; exact hr i a b
    simp only [zsw] at hR
    have fin : ∀ h2 hm2, MG T nw h2 → Off WS h h2 → zch h2 = c → HR hm2 h2 → (∀ q, 0 ≤ hm2 q ∧ hm2 q ≤ 1000000 * k + 1000000) → zsw T D0 D1 j (zdy T nw 1 (zto T D0 D1 nw)) hm2 = R → wpB (d + 11) 346 73 [some (.inr (.inr 1036)), some (.inl n), some (.inl w), some (.inl k)] [] h2 Q := by
      intro h2 hm2 hG2 hO2 hch2 hr2 hb2 hR2
      have f75 : ah_m h2 1036 75 = 1 := by rw [hO2.2 _ _ (by unfold WS WD Wc Wy Wq; omega)]; exact e75
      simp (disch := omega) only [q_346_73, b_346_73, ↓w_aload_n_0, ↓w_iinc_3, ↓w_goto, ↓w_invokevirtual_0, stw_0, stw_i, stw_l, stw_r, ofK0, ofK1, ofK2, lst1, lst2, lkill, kont_none, kont_some, Int.reduceToNat, List.length_cons, List.length_nil, Nat.reduceAdd, Nat.reduceLeDiff, Nat.zero_le, true_and, and_true, if_true, if_false, ne_eq, Int.reduceEq, Int.reduceNeg, not_false_eq_true, not_true_eq_false, ↓reduceIte, Int.reduceLT, Int.reduceLE, and_self, or_true, true_or, or_false, false_or, false_and, and_false, ah_t_w, ah_m_w, ah_n_w, lst1_0, List.tail_cons, w32_i, zbd, lst2_0, mt_1036a hG2.1]
      refine c_332 hG2 hH hF (by omega) f75 hch2 hv (fun h3 hG3 hF3 hO3 _ => ?_)
      have ez := @zdy_0 h2 1 T nw _ hG2 hF hv
      have et := fun i hi => @zdy_th h2 1 T nw _ hG2 hv (by decide) i hi
      rw [edy] at hG3 hF3 ez et
      simp (disch := omega) only [b_346_73, ↓w_aload_n_0, ↓w_iinc_3, ↓w_goto, ↓w_invokevirtual_0, stw_0, stw_i, stw_l, stw_r, ofK0, ofK1, ofK2, lst1, lst2, lkill, kont_none, kont_some, Int.reduceToNat, List.length_cons, List.length_nil, Nat.reduceAdd, Nat.reduceLeDiff, Nat.zero_le, true_and, and_true, if_true, if_false, ne_eq, Int.reduceEq, Int.reduceNeg, not_false_eq_true, not_true_eq_false, ↓reduceIte, Int.reduceLT, Int.reduceLE, and_self, or_true, true_or, or_false, false_or, false_and, and_false, ah_t_w, ah_m_w, ah_n_w, lst1_0, List.tail_cons, w32_i, zbd, lst2_0]
      refine ih (k + 1) _ hm2 _ (by omega) (by omega) hG3 hF3 (by rw [ez]; omega) (Off_tr hO2 (Off_mono (fun r i w => Or.inl (Or.inr w)) hO3)) (fun i hi => by rw [et i hi]; exact hth i hi) (fun i a b => by rw [hO3.2 _ _ (by unfold Wy Wq; omega)]; exact hr2 i a b) (fun q => by have := hb2 q; omega) hR2
    by_cases g : c.1 = -1
    · have g' : (zto T D0 D1 nw).1 = -1 := by
        rcases hab with q | q
        · exact q.2
        · rw [← q]; exact g
      rw [if_pos g'] at hR
      simp (disch := omega) only [b_346_52, ↓w_iconst, ↓w_aload_n_0, ↓w_iload_n_1, ↓w_iload_n_3, ↓w_getfield, ↓w_nop, ↓w_if_icmp_eq, ↓w_if_icmp_ge, ↓w_invokevirtual_0, stw_0, stw_i, stw_l, stw_r, ofK0, ofK1, ofK2, lst1, lst2, lkill, kont_none, kont_some, Int.reduceToNat, List.length_cons, List.length_nil, Nat.reduceAdd, Nat.reduceLeDiff, Nat.zero_le, true_and, and_true, if_true, if_false, ne_eq, Int.reduceEq, Int.reduceNeg, not_false_eq_true, not_true_eq_false, ↓reduceIte, Int.reduceLT, Int.reduceLE, and_self, or_true, true_or, or_false, false_or, false_and, and_false, ah_t_w, ah_m_w, ah_n_w, lst1_0, List.tail_cons, w32_i, zbd, lst2_0, mt_1036a hG1.1, e68, g]
      exact fin h1 hm hG1 hO1' hch hr1 (fun q => by have := hb q; omega) hR
    · have g' : c = zto T D0 D1 nw := by
        rcases hab with q | q
        · exact absurd q.1 g
        · exact q
      rw [← g', if_neg g] at hR
      rw [← g'] at fin
      rcases hv with hv | hv
      · exact absurd hv g
      simp (disch := omega) only [b_346_52, ↓w_iconst, ↓w_aload_n_0, ↓w_iload_n_1, ↓w_iload_n_3, ↓w_getfield, ↓w_nop, ↓w_if_icmp_eq, ↓w_if_icmp_ge, ↓w_invokevirtual_0, stw_0, stw_i, stw_l, stw_r, ofK0, ofK1, ofK2, lst1, lst2, lkill, kont_none, kont_some, Int.reduceToNat, List.length_cons, List.length_nil, Nat.reduceAdd, Nat.reduceLeDiff, Nat.zero_le, true_and, and_true, if_true, if_false, ne_eq, Int.reduceEq, Int.reduceNeg, not_false_eq_true, not_true_eq_false, ↓reduceIte, Int.reduceLT, Int.reduceLE, and_self, or_true, true_or, or_false, false_or, false_and, and_false, ah_t_w, ah_m_w, ah_n_w, lst1_0, List.tail_cons, w32_i, zbd, lst2_0, mt_1036a hG1.1, e68, g]
      refine c_347 hG1 hH hF (congrArg (fun q => q.2.1) hch) (congrArg (fun q => q.2.2) hch) hv.2.1 hv.2.2.1 hv.2.2.2.1 hv.2.2.2.2 (hm := hm) (fun q => by have := hb q; omega) hr1 (fun h2 hG2 hr2 hO2 => ?_)
      simp (disch := omega) only [b_346_52, ↓w_iconst, ↓w_aload_n_0, ↓w_iload_n_1, ↓w_iload_n_3, ↓w_getfield, ↓w_nop, ↓w_if_icmp_eq, ↓w_if_icmp_ge, ↓w_invokevirtual_0, stw_0, stw_i, stw_l, stw_r, ofK0, ofK1, ofK2, lst1, lst2, lkill, kont_none, kont_some, Int.reduceToNat, List.length_cons, List.length_nil, Nat.reduceAdd, Nat.reduceLeDiff, Nat.zero_le, true_and, and_true, if_true, if_false, ne_eq, Int.reduceEq, Int.reduceNeg, not_false_eq_true, not_true_eq_false, ↓reduceIte, Int.reduceLT, Int.reduceLE, and_self, or_true, true_or, or_false, false_or, false_and, and_false, ah_t_w, ah_m_w, ah_n_w, lst1_0, List.tail_cons, w32_i, zbd, lst2_0]
      refine fin h2 _ hG2 (Off_tr hO1' (Off_mono (fun r i w => ?_) hO2)) ?_ hr2 (zlh_b hG1 hH hb) hR
      · rcases w with w | w | w | w
        · exact Or.inr w
        · exact Or.inl (Or.inl (Or.inl w))
        · exact Or.inl (Or.inr (Or.inr (Or.inr (Or.inl w))))
        · exact Or.inl (Or.inr (Or.inr (Or.inr (Or.inr ⟨w.1, by omega⟩))))
      · rw [← hch]; unfold zch
        rw [hO2.2 _ _ (by unfold Wq; omega), hO2.2 _ _ (by unfold Wq; omega), hO2.2 _ _ (by unfold Wq; omega)]
theorem l_346a {hz : AH} (hM : MI hz) (hQ : ∀ h', HR (fun _ => 0) h' → Off (fun r _ => r = 1090) hz h' → wpB d 346 46 [some (.inr (.inr 1036)), some (.inl n), some (.inl w), some (.inl 25)] [] h' Q) :
    ∀ (j : Nat) (k : Int) h', 0 ≤ k → k + j = 25 → Off (fun r _ => r = 1090) hz h' → (∀ i, 0 ≤ i → i < k → ah_m h' 1090 i = 0) → wpB d 346 27 [some (.inr (.inr 1036)), some (.inl n), some (.inl w), some (.inl k)] [] h' Q := by
  intro j
  induction j with
  | zero =>
    intro k h' k0 k1 hO hi
    have hlt : ¬ k < 25 := by omega
    have ek : k = 25 := by omega
    subst ek
    simp (disch := omega) only [q_346_27, b_346_27, ↓w_bipush, ↓w_lconst, ↓w_aload_n_0, ↓w_iload_n_3, ↓w_iinc_3, ↓w_getfield, ↓w_lastore, ↓w_goto, ↓w_if_icmp_ge, stw_0, stw_i, stw_l, stw_r, ofK0, ofK1, ofK2, lst1, lst2, lkill, kont_none, kont_some, Int.reduceToNat, List.length_cons, List.length_nil, Nat.reduceAdd, Nat.reduceLeDiff, Nat.zero_le, true_and, and_true, if_true, if_false, ne_eq, Int.reduceEq, Int.reduceNeg, not_false_eq_true, not_true_eq_false, ↓reduceIte, Int.reduceLT, Int.reduceLE, and_self, or_true, true_or, or_false, false_or, false_and, and_false, ah_t_w, ah_m_w, ah_n_w, lst1_0, List.tail_cons, w32_i, zbd, lst2_0, hlt]
    exact hQ _ hi hO
  | succ j ih =>
    intro k h' k0 k1 hO hi
    have hM' : MI h' := MI_off hM hO (fun r i w => by unfold fre; omega)
    have hlt : k < 25 := by omega
    rw [q_346_27]
    simp (disch := omega) only [b_346_27, ↓w_bipush, ↓w_lconst, ↓w_aload_n_0, ↓w_iload_n_3, ↓w_iinc_3, ↓w_getfield, ↓w_lastore, ↓w_goto, ↓w_if_icmp_ge, stw_0, stw_i, stw_l, stw_r, ofK0, ofK1, ofK2, lst1, lst2, lkill, kont_none, kont_some, Int.reduceToNat, List.length_cons, List.length_nil, Nat.reduceAdd, Nat.reduceLeDiff, Nat.zero_le, true_and, and_true, if_true, if_false, ne_eq, Int.reduceEq, Int.reduceNeg, not_false_eq_true, not_true_eq_false, ↓reduceIte, Int.reduceLT, Int.reduceLE, and_self, or_true, true_or, or_false, false_or, false_and, and_false, ah_t_w, ah_m_w, ah_n_w, lst1_0, List.tail_cons, w32_i, zbd, lst2_0, mt_1036a hM', mt_1090a hM', mt_1090b hM', mf_76 hM', hlt]
    refine ⟨k0, ih (k + 1) _ (by omega) (by omega) (Off_w hO rfl) (fun i a b => ?_)⟩
    rw [ah_m_w]; split
    · rfl
    · exact hi i a (by omega)
theorem zmn_b : ∀ (j : Nat) (k b : Int), 0 ≤ b → b < k → 0 ≤ zmn hm j k b ∧ zmn hm j k b < k + j := by
  intro j
  induction j with
  | zero => intro k b h0 h1; simp only [zmn]; omega
  | succ j ih =>
    intro k b h0 h1
    simp only [zmn]
    split
    · have := ih (k + 1) k (by omega) (by omega); omega
    · have := ih (k + 1) b h0 (by omega); omega
theorem l_346c (hG : MG T nw h) (hr : HR hm h) (hQ : ∀ tl, wpB (d + 1) 346 127 (some (.inr (.inr 1036)) :: some (.inl n) :: some (.inl w) :: some (.inl (zmn hm (zP T - 1) 1 0)) :: tl) [] h Q) :
    ∀ (j : Nat) (k b : Int), 1 ≤ k → k + j = zP T ∨ (j = 0 ∧ zP T ≤ k) → 0 ≤ b → b < k → k ≤ 25 → zmn hm j k b = zmn hm (zP T - 1) 1 0 → wpB (d + 1) 346 92 [some (.inr (.inr 1036)), some (.inl n), some (.inl w), some (.inl b), some (.inl k)] [] h Q := by
  have hP := zP_b hG
  have hPi := zP_i hG
  intro j
  induction j with
  | zero =>
    intro k b k0 k1 b0 b1 k5 hR
    have hlt : ¬ k < (zP T : Int) := by omega
    simp (disch := omega) only [q_346_92, b_346_92, ↓w_aload_n_0, ↓w_iload_n_3, ↓w_iload_4, ↓w_istore_n_3, ↓w_lcmp, ↓w_getfield, ↓w_laload, ↓w_nop, ↓w_ifCond_ge, ↓w_if_icmp_ge, ↓w_invokevirtual_0, stw_0, stw_i, stw_l, stw_r, ofK0, ofK1, ofK2, lst1, lst2, lkill, kont_none, kont_some, Int.reduceToNat, List.length_cons, List.length_nil, Nat.reduceAdd, Nat.reduceLeDiff, Nat.zero_le, true_and, and_true, if_true, if_false, ne_eq, Int.reduceEq, Int.reduceNeg, not_false_eq_true, not_true_eq_false, ↓reduceIte, Int.reduceLT, Int.reduceLE, and_self, or_true, true_or, or_false, false_or, false_and, and_false, ah_t_w, ah_m_w, ah_n_w, lst1_0, List.tail_cons, w32_i, zbd, lst2_0, lc_gt, lc_lt, lc_eq, mt_1036a hG.1, mt_1090a hG.1, mt_1090b hG.1, mf_76 hG.1, c_289 hG, hlt]
    simp only [zmn] at hR
    rw [hR]
    exact hQ _
  | succ j ih =>
    intro k b k0 k1 b0 b1 k5 hR
    have hlt : k < (zP T : Int) := by omega
    have e1 := hr k (by omega) (by omega)
    have e2 := hr b (by omega) (by omega)
    simp only [zmn] at hR
    rw [q_346_92]
    by_cases g : hm k < hm b
    · rw [if_pos g] at hR
      simp (disch := omega) only [b_346_92, q_346_121, b_346_121, ↓w_aload_n_0, ↓w_iload_n_3, ↓w_iload_4, ↓w_iinc_4, ↓w_istore_n_3, ↓w_lcmp, ↓w_getfield, ↓w_laload, ↓w_nop, ↓w_goto, ↓w_ifCond_ge, ↓w_if_icmp_ge, ↓w_invokevirtual_0, stw_0, stw_i, stw_l, stw_r, ofK0, ofK1, ofK2, lst1, lst2, lkill, kont_none, kont_some, Int.reduceToNat, List.length_cons, List.length_nil, Nat.reduceAdd, Nat.reduceLeDiff, Nat.zero_le, true_and, and_true, if_true, if_false, ne_eq, Int.reduceEq, Int.reduceNeg, not_false_eq_true, not_true_eq_false, ↓reduceIte, Int.reduceLT, Int.reduceLE, and_self, or_true, true_or, or_false, false_or, false_and, and_false, ah_t_w, ah_m_w, ah_n_w, lst1_0, List.tail_cons, w32_i, zbd, lst2_0, lc_gt, lc_lt, lc_eq, mt_1036a hG.1, mt_1090a hG.1, mt_1090b hG.1, mf_76 hG.1, c_289 hG, hlt, e1, e2, g]
      exact ih (k + 1) k (by omega) (by omega) (by omega) (by omega) (by omega) hR
    · rw [if_neg g] at hR
      simp (disch := omega) only [b_346_92, q_346_121, b_346_121, ↓w_aload_n_0, ↓w_iload_n_3, ↓w_iload_4, ↓w_iinc_4, ↓w_istore_n_3, ↓w_lcmp, ↓w_getfield, ↓w_laload, ↓w_nop, ↓w_goto, ↓w_ifCond_ge, ↓w_if_icmp_ge, ↓w_invokevirtual_0, stw_0, stw_i, stw_l, stw_r, ofK0, ofK1, ofK2, lst1, lst2, lkill, kont_none, kont_some, Int.reduceToNat, List.length_cons, List.length_nil, Nat.reduceAdd, Nat.reduceLeDiff, Nat.zero_le, true_and, and_true, if_true, if_false, ne_eq, Int.reduceEq, Int.reduceNeg, not_false_eq_true, not_true_eq_false, ↓reduceIte, Int.reduceLT, Int.reduceLE, and_self, or_true, true_or, or_false, false_or, false_and, and_false, ah_t_w, ah_m_w, ah_n_w, lst1_0, List.tail_cons, w32_i, zbd, lst2_0, lc_gt, lc_lt, lc_eq, mt_1036a hG.1, mt_1090a hG.1, mt_1090b hG.1, mf_76 hG.1, c_289 hG, hlt, e1, e2, g]
      exact ih (k + 1) b (by omega) (by omega) (by omega) (by omega) (by omega) hR
theorem c_346 (hG : MG T nw h) (hF : FV nw) (hH : HV T) (hL : ah_m h 1036 58 ≠ 0 → LV T ∧ 2 ≤ T 1074 4 ∧ 2 ≤ T 1074 5) (hX : MX h)
    (hQ : ∀ h', MG T nw h' → MX h' → Off WT h h' → Q (.inl (some (.inl (if (ah_m h 1036 58 ≠ 0 ∧ (0 ≤ n ∧ n ≤ 20) ∧ nw 0 + n ≤ 999) ∧ (0 ≤ w ∧ w ≤ 2) then zsow T (T 1074 6) (T 1074 7) nw n w else -1)))) h') : wpC (d + 12) 346 [.inr (.inr 1036), .inl n, .inl w] h Q := by
  have hT := hG.2.2.2.1
  have hP := zP_b hG
  have hPi := zP_i hG
  rw [wpC_B]; refine ⟨⟨Nat.zero_lt_succ _, Nat.le_of_ble_eq_true rfl⟩, ?_⟩; simp only [lent]
  by_cases e1 : ah_m h 1036 58 ≠ 0 ∧ (0 ≤ n ∧ n ≤ 20) ∧ nw 0 + n ≤ 999
  · by_cases e2 : 0 ≤ w ∧ w ≤ 2
    · rw [if_pos ⟨e1, e2⟩] at hQ
      have hL' := hL e1.1
      have hL := hL'.1
      have hP4 : 4 ≤ T 1074 4 * T 1074 5 := Int.mul_le_mul (a := 2) (b := 2) hL'.2.1 hL'.2.2 (by decide) (by omega)
      simp (disch := omega) only [q_346_0, b_346_0, q_346_25, b_346_25, ↓w_iconst, ↓w_bipush, ↓w_lconst, ↓w_ldc2_w, ↓w_aload_n_0, ↓w_iload_n_1, ↓w_iload_n_2, ↓w_istore_n_3, ↓w_i2l, ↓w_nop, ↓w_ifCond_eq, ↓w_ifCond_ne, ↓w_invokestatic_3, ↓w_invokevirtual_3, stw_0, stw_i, stw_l, stw_r, ofK0, ofK1, ofK2, lst1, lst2, lkill, kont_none, kont_some, Int.reduceToNat, List.length_cons, List.length_nil, Nat.reduceAdd, Nat.reduceLeDiff, Nat.zero_le, true_and, and_true, if_true, if_false, ne_eq, Int.reduceEq, Int.reduceNeg, not_false_eq_true, not_true_eq_false, ↓reduceIte, Int.reduceLT, Int.reduceLE, and_self, or_true, true_or, or_false, false_or, false_and, and_false, ah_t_w, ah_m_w, ah_n_w, lst1_0, List.tail_cons, w32_i, zbd, lst2_0, mt_1036a hG.1, c_328 hG hF, c_246, e1, e2]
      refine l_346a hG.1 (fun h1 hr1 hO1 => ?_) 25 0 _ (by omega) (by omega) Off_rfl (fun i a b => by omega)
      have hG1 : MG T nw h1 := MG_off hG hO1 (fun r i w => by unfold fre; omega)
      simp (disch := omega) only [q_346_46, b_346_46, ↓w_iconst, ↓w_aload_n_0, ↓w_istore_n_3, ↓w_nop, ↓w_invokevirtual_0, stw_0, stw_i, stw_l, stw_r, ofK0, ofK1, ofK2, lst1, lst2, lkill, kont_none, kont_some, Int.reduceToNat, List.length_cons, List.length_nil, Nat.reduceAdd, Nat.reduceLeDiff, Nat.zero_le, true_and, and_true, if_true, if_false, ne_eq, Int.reduceEq, Int.reduceNeg, not_false_eq_true, not_true_eq_false, ↓reduceIte, Int.reduceLT, Int.reduceLE, and_self, or_true, true_or, or_false, false_or, false_and, and_false, ah_t_w, ah_m_w, ah_n_w, lst1_0, List.tail_cons, w32_i, zbd, lst2_0, mt_1036a hG1.1]
      refine t_329' hG1 (fun h2 hG2 hA2 hO2 hd2 => ?_)
      have hX1 : MX h1 := ⟨by rw [hO1.2 _ _ (by omega)]; exact hX.1, by rw [hO1.2 _ _ (by omega)]; exact hX.2⟩
      have hz := @zdd_x h1 T hX1
      have hr2 : HR (fun _ => 0) h2 := fun i a b => by
        rw [hO2.2 _ _ (by omega)]; exact hr1 i a b
      simp (disch := omega) only [b_346_46, ↓w_iconst, ↓w_aload_n_0, ↓w_istore_n_3, ↓w_nop, ↓w_invokevirtual_0, stw_0, stw_i, stw_l, stw_r, ofK0, ofK1, ofK2, lst1, lst2, lkill, kont_none, kont_some, Int.reduceToNat, List.length_cons, List.length_nil, Nat.reduceAdd, Nat.reduceLeDiff, Nat.zero_le, true_and, and_true, if_true, if_false, ne_eq, Int.reduceEq, Int.reduceNeg, not_false_eq_true, not_true_eq_false, ↓reduceIte, Int.reduceLT, Int.reduceLE, and_self, or_true, true_or, or_false, false_or, false_and, and_false, ah_t_w, ah_m_w, ah_n_w, lst1_0, List.tail_cons, w32_i, zbd, lst2_0]
      refine l_346b (h := h2) hH (by rw [hd2]; exact hz.1) (by rw [hd2]; exact hz.2) ⟨hL.1.1, by have := hL.1.2; omega⟩ ⟨hL.2.1, by have := hL.2.2; omega⟩ hA2.2 e1.2.1 (R := zsw T (T 1074 6) (T 1074 7) n.toNat nw (fun _ => 0)) (fun h3 nd hG3 hnd hr3 hb3 hO3 => ?_) n.toNat 0 nw (fun _ => 0) _ (by omega) (by omega) hG2 hF (by omega) Off_rfl (fun i _ => by rw [g_1083 hG2]) hr2 (fun q => by omega) rfl
      have hA3 := Asd_off hA2 hO3 (fun r i w => WS_A w)
      unfold zsow at hQ
      generalize zsw T (T 1074 6) (T 1074 7) n.toNat nw (fun _ => 0) = R at *
      simp only at hQ
      simp (disch := omega) only [q_346_83, b_346_83, ↓w_iconst, ↓w_aload_n_0, ↓w_istore, ↓w_istore_n_3, ↓w_nop, ↓w_invokevirtual_0, stw_0, stw_i, stw_l, stw_r, ofK0, ofK1, ofK2, lst1, lst2, lkill, kont_none, kont_some, Int.reduceToNat, List.length_cons, List.length_nil, Nat.reduceAdd, Nat.reduceLeDiff, Nat.zero_le, true_and, and_true, if_true, if_false, ne_eq, Int.reduceEq, Int.reduceNeg, not_false_eq_true, not_true_eq_false, ↓reduceIte, Int.reduceLT, Int.reduceLE, and_self, or_true, true_or, or_false, false_or, false_and, and_false, ah_t_w, ah_m_w, ah_n_w, lst1_0, List.tail_cons, w32_i, zbd, lst2_0, mt_1036a hG3.1]
      refine t_341 hG3 hA3 hG.2.2.2.2 (fun i hi => by rw [hnd i hi, g_1083 hG2]) (fun h4 hG4 hO4 e4 => ?_)
      have hr4 : HR R h4 := fun i a b => by rw [hO4.2 _ _ (by omega)]; exact hr3 i a b
      have hO : Off WT h h4 := Off_tr (Off_mono (fun r i w => by unfold WT; omega) hO1) (Off_tr (Off_mono (fun r i w => by unfold WT; omega) hO2) (Off_tr (Off_mono (fun r i w => by unfold WS at w; unfold WT; rcases w with w | w; exact Or.inl w; omega) hO3) (Off_mono (fun r i w => by unfold WT WD Wy; omega) hO4)))
      have hX4 : MX h4 := ⟨e4, by rw [hO4.2 _ _ (by omega), hO3.2 _ _ (by unfold WS WD Wc Wy Wq; omega), hO2.2 _ _ (by omega)]; exact hX1.2⟩
      have hq := hQ h4 hG4 hX4 hO
      simp (disch := omega) only [b_346_83, ↓w_iconst, ↓w_aload_n_0, ↓w_istore, ↓w_istore_n_3, ↓w_nop, ↓w_invokevirtual_0, stw_0, stw_i, stw_l, stw_r, ofK0, ofK1, ofK2, lst1, lst2, lkill, kont_none, kont_some, Int.reduceToNat, List.length_cons, List.length_nil, Nat.reduceAdd, Nat.reduceLeDiff, Nat.zero_le, true_and, and_true, if_true, if_false, ne_eq, Int.reduceEq, Int.reduceNeg, not_false_eq_true, not_true_eq_false, ↓reduceIte, Int.reduceLT, Int.reduceLE, and_self, or_true, true_or, or_false, false_or, false_and, and_false, ah_t_w, ah_m_w, ah_n_w, lst1_0, List.tail_cons, w32_i, zbd, lst2_0]
      refine l_346c hG4 hr4 (fun tl => ?_) (zP T - 1) 1 0 (by omega) (by omega) (by omega) (by omega) (by omega) rfl
      have hbz := @zmn_b R (zP T - 1) 1 0 (by omega) (by omega)
      generalize zmn R (zP T - 1) 1 0 = B at *
      obtain ⟨hC, hx, hy, t1, t2⟩ := zkk hG hbz.1 (by omega)
      have b4 := hT.2.2.2.1; have b5 := hT.2.2.2.2.1
      have hC' : ¬ T 1074 4 = 0 := by omega
      have e5 := hr4 B hbz.1 (by omega)
      have hb5 := hb3 B
      by_cases g0 : w = 0
      · rw [if_pos g0] at hq
        simp (disch := omega) only [q_346_127, b_346_127, q_346_184, b_346_184, ↓w_iconst, ↓w_aload_n_0, ↓w_iload_n_2, ↓w_iload_n_3, ↓w_irem, ↓w_getfield, ↓w_iaload, ↓w_goto, ↓w_ifCond_ne, ↓w_ireturn0, stw_0, stw_i, stw_l, stw_r, ofK0, ofK1, ofK2, lst1, lst2, lkill, kont_none, kont_some, Int.reduceToNat, List.length_cons, List.length_nil, Nat.reduceAdd, Nat.reduceLeDiff, Nat.zero_le, true_and, and_true, if_true, if_false, ne_eq, Int.reduceEq, Int.reduceNeg, not_false_eq_true, not_true_eq_false, ↓reduceIte, Int.reduceLT, Int.reduceLE, and_self, or_true, true_or, or_false, false_or, false_and, and_false, ah_t_w, ah_m_w, ah_n_w, lst1_0, List.tail_cons, w32_i, zbd, lst2_0, mt_1036a hG4.1, mt_1074a hG4.1, mt_1074b hG4.1, mf_47 hG4.1, g_1074 hG4, g0, hC', t1]
        exact hq
      · rw [if_neg g0] at hq
        by_cases g1 : w = 1
        · rw [if_pos g1] at hq
          simp (disch := omega) only [q_346_127, b_346_127, q_346_142, b_346_142, q_346_184, b_346_184, ↓w_iconst, ↓w_aload_n_0, ↓w_iload_n_2, ↓w_iload_n_3, ↓w_idiv, ↓w_irem, ↓w_getfield, ↓w_iaload, ↓w_goto, ↓w_ifCond_ne, ↓w_if_icmp_ne, ↓w_ireturn0, stw_0, stw_i, stw_l, stw_r, ofK0, ofK1, ofK2, lst1, lst2, lkill, kont_none, kont_some, Int.reduceToNat, List.length_cons, List.length_nil, Nat.reduceAdd, Nat.reduceLeDiff, Nat.zero_le, true_and, and_true, if_true, if_false, ne_eq, Int.reduceEq, Int.reduceNeg, not_false_eq_true, not_true_eq_false, ↓reduceIte, Int.reduceLT, Int.reduceLE, and_self, or_true, true_or, or_false, false_or, false_and, and_false, ah_t_w, ah_m_w, ah_n_w, lst1_0, List.tail_cons, w32_i, zbd, lst2_0, mt_1036a hG4.1, mt_1074a hG4.1, mt_1074b hG4.1, mf_47 hG4.1, g_1074 hG4, g0, g1, hC', t2]
          exact hq
        · rw [if_neg g1] at hq
          by_cases g2 : 999999 < R B
          · rw [if_pos g2] at hq
            simp (disch := omega) only [q_346_127, b_346_127, q_346_142, b_346_142, q_346_158, b_346_158, q_346_184, b_346_184, ↓w_iconst, ↓w_ldc2_w, ↓w_ldc_w, ↓w_aload_n_0, ↓w_iload_n_2, ↓w_iload_n_3, ↓w_lcmp, ↓w_idiv, ↓w_irem, ↓w_getfield, ↓w_iaload, ↓w_laload, ↓w_goto, ↓w_ifCond_ne, ↓w_if_icmp_ne, ↓w_ifCond_le, ↓w_ireturn0, stw_0, stw_i, stw_l, stw_r, ofK0, ofK1, ofK2, lst1, lst2, lkill, kont_none, kont_some, Int.reduceToNat, List.length_cons, List.length_nil, Nat.reduceAdd, Nat.reduceLeDiff, Nat.zero_le, true_and, and_true, if_true, if_false, ne_eq, Int.reduceEq, Int.reduceNeg, not_false_eq_true, not_true_eq_false, ↓reduceIte, Int.reduceLT, Int.reduceLE, and_self, or_true, true_or, or_false, false_or, false_and, and_false, ah_t_w, ah_m_w, ah_n_w, lst1_0, List.tail_cons, w32_i, zbd, lst2_0, lc_gt, lc_lt, lc_eq, mt_1036a hG4.1, mt_1074a hG4.1, mt_1074b hG4.1, mf_47 hG4.1, mt_1090a hG4.1, mt_1090b hG4.1, mf_76 hG4.1, g_1074 hG4, g0, g1, e5, g2]
            exact hq
          · rw [if_neg g2] at hq
            simp (disch := omega) only [q_346_127, b_346_127, q_346_142, b_346_142, q_346_158, b_346_158, q_346_177, b_346_177, q_346_184, b_346_184, ↓w_iconst, ↓w_ldc2_w, ↓w_ldc_w, ↓w_aload_n_0, ↓w_iload_n_2, ↓w_iload_n_3, ↓w_lcmp, ↓w_idiv, ↓w_irem, ↓w_l2i, ↓w_getfield, ↓w_iaload, ↓w_laload, ↓w_nop, ↓w_goto, ↓w_ifCond_ne, ↓w_if_icmp_ne, ↓w_ifCond_le, ↓w_ireturn0, stw_0, stw_i, stw_l, stw_r, ofK0, ofK1, ofK2, lst1, lst2, lkill, kont_none, kont_some, Int.reduceToNat, List.length_cons, List.length_nil, Nat.reduceAdd, Nat.reduceLeDiff, Nat.zero_le, true_and, and_true, if_true, if_false, ne_eq, Int.reduceEq, Int.reduceNeg, not_false_eq_true, not_true_eq_false, ↓reduceIte, Int.reduceLT, Int.reduceLE, and_self, or_true, true_or, or_false, false_or, false_and, and_false, ah_t_w, ah_m_w, ah_n_w, lst1_0, List.tail_cons, w32_i, zbd, lst2_0, lc_gt, lc_lt, lc_eq, mt_1036a hG4.1, mt_1074a hG4.1, mt_1074b hG4.1, mf_47 hG4.1, mt_1090a hG4.1, mt_1090b hG4.1, mf_76 hG4.1, g_1074 hG4, g0, g1, e5, g2]
            exact hq
    · rw [if_neg (fun q => e2 q.2)] at hQ
      simp (disch := omega) only [q_346_0, b_346_0, q_346_23, b_346_23, ↓w_iconst, ↓w_bipush, ↓w_lconst, ↓w_ldc2_w, ↓w_aload_n_0, ↓w_iload_n_1, ↓w_iload_n_2, ↓w_i2l, ↓w_nop, ↓w_ifCond_eq, ↓w_ifCond_ne, ↓w_ireturn0, ↓w_invokestatic_3, ↓w_invokevirtual_3, stw_0, stw_i, stw_l, stw_r, ofK0, ofK1, ofK2, lst1, lst2, lkill, kont_none, kont_some, Int.reduceToNat, List.length_cons, List.length_nil, Nat.reduceAdd, Nat.reduceLeDiff, Nat.zero_le, true_and, and_true, if_true, if_false, ne_eq, Int.reduceEq, Int.reduceNeg, not_false_eq_true, not_true_eq_false, ↓reduceIte, Int.reduceLT, Int.reduceLE, and_self, or_true, true_or, or_false, false_or, false_and, and_false, ah_t_w, ah_m_w, ah_n_w, lst1_0, List.tail_cons, w32_i, zbd, lst2_0, mt_1036a hG.1, c_328 hG hF, c_246, e1, e2]
      exact hQ _ hG hX Off_rfl
  · rw [if_neg (fun q => e1 q.1)] at hQ
    simp (disch := omega) only [q_346_0, b_346_0, q_346_23, b_346_23, ↓w_iconst, ↓w_bipush, ↓w_lconst, ↓w_ldc2_w, ↓w_aload_n_0, ↓w_iload_n_1, ↓w_iload_n_2, ↓w_i2l, ↓w_nop, ↓w_ifCond_eq, ↓w_ifCond_ne, ↓w_ireturn0, ↓w_invokestatic_3, ↓w_invokevirtual_3, stw_0, stw_i, stw_l, stw_r, ofK0, ofK1, ofK2, lst1, lst2, lkill, kont_none, kont_some, Int.reduceToNat, List.length_cons, List.length_nil, Nat.reduceAdd, Nat.reduceLeDiff, Nat.zero_le, true_and, and_true, if_true, if_false, ne_eq, Int.reduceEq, Int.reduceNeg, not_false_eq_true, not_true_eq_false, ↓reduceIte, Int.reduceLT, Int.reduceLE, and_self, or_true, true_or, or_false, false_or, false_and, and_false, ah_t_w, ah_m_w, ah_n_w, lst1_0, List.tail_cons, w32_i, zbd, lst2_0, mt_1036a hG.1, c_328 hG hF, c_246, if_neg e1]
    exact hQ _ hG hX Off_rfl
end SOW
