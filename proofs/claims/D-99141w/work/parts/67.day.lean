/-! ===== M: a day ===== -/
def zsh (nw : Int → Int) : Int → Int := fun i => if 25 ≤ i ∧ i < 220 then nw (i + 5) else nw i
def zin (nw : Int → Int) : Int → Int := fun i => if i = 24 then nw 24 + 1 else nw i
def zke (r : Int → Int) (n m x y t : Int) : Int → Int := fun i => if i = 24 + 5 * n then t else if i = 23 + 5 * n then y else if i = 22 + 5 * n then x else if i = 21 + 5 * n then m else if i = 20 + 5 * n then r 0 else r i
def zkp (nw : Int → Int) (m x y t : Int) : Int → Int := if nw 24 = 40 then zke (zsh nw) 40 m x y t else zke (zin nw) (nw 24 + 1) m x y t
/-- what harm leaves of the first n fields -/
def zhf (T : Int → Int → Int) (t ck x y day : Int) (n : Int) (nw : Int → Int) : Int → Int := fun i => if 18 ≤ i ∧ i < 18 + n then (if nw i < zharm T t ck (zoff (T 1078 (18 + 3 * (i - 18))) (T 1078 (19 + 3 * (i - 18))) x y) day then 0 else nw i - zharm T t ck (zoff (T 1078 (18 + 3 * (i - 18))) (T 1078 (19 + 3 * (i - 18))) x y) day) else nw i
def ztk (T : Int → Int → Int) (nw : Int → Int) (p : Int) : Int := if zat T nw (p % T 1074 4) (p / T 1074 4) = -1 then 0 else zwo T (zat T nw (p % T 1074 4) (p / T 1074 4))
def ztl' (T : Int → Int → Int) (nw : Int → Int) (p : Int) : Int := if zat T nw (p % T 1074 4) (p / T 1074 4) = -1 then 255 else zat T nw (p % T 1074 4) (p / T 1074 4)
def zck (T : Int → Int → Int) (nw : Int → Int) (m p : Int) : Int := zb (zchk T (zdo T nw m p) (zdo T nw m p 1))
def zph (T : Int → Int → Int) (nw : Int → Int) (m p : Int) : Int → Int := zhf T (ztk T nw p) (zck T nw m p) (p % T 1074 4) (p / T 1074 4) (nw 0) (T 1072 5) (zdo T nw m p)
/-- a move is played (th: in thought) -/
def zpy (T : Int → Int → Int) (nw : Int → Int) (th m p : Int) : Int → Int := if th = 0 then zkp (zph T nw m p) m (p % T 1074 4) (p / T 1074 4) (ztl' T nw p) else zph T nw m p
def zgr (T : Int → Int → Int) (n : Int) (nw : Int → Int) : Int → Int := fun i => if 18 ≤ i ∧ i < 18 + n then (if 999 < nw i + T 1079 2 then 999 else nw i + T 1079 2) else nw i
def zfs (nw : Int → Int) : Int → Int := fun i => if i = 1 then 1 - nw 1 else nw i
def znx (nw : Int → Int) : Int → Int := fun i => if i = 0 then nw 0 + 1 else nw i
/-- a day, by a choice -/
def zdy (T : Int → Int → Int) (nw : Int → Int) (th : Int) (c : Int × Int × Int) : Int → Int := znx (zgr T (T 1072 5) (if c.1 = -1 then zfs nw else zpy T nw th c.2.1 c.2.2))
def zcv (T : Int → Int → Int) (c : Int × Int × Int) : Prop := c.1 = -1 ∨ (0 ≤ c.1 ∧ 0 ≤ c.2.1 ∧ c.2.1 < T 1072 4 ∧ 0 ≤ c.2.2 ∧ c.2.2 < zP T)
def W83 (r _i : Int) : Prop := r = 1083
section DAY
variable {d : Nat} {h h0 : AH} {Q : QQ} {x y z m k s l w a b c v n t p : Int} {T : Int → Int → Int} {nw g : Int → Int}
set_option maxHeartbeats 2000000
theorem W83_f {r i : Int} (w : W83 r i) : fre r i := by unfold W83 at w; unfold fre; omega
theorem NV_c {nw' : Int → Int} (hN : NV T nw) (h8 : T 1072 4 ≤ 8) (he : ∀ i, 1 ≤ i → i < 18 → nw' i = nw i) : NV T nw' := by
  refine ⟨fun m a b => ?_, fun m a b => ?_, fun m q a b a' b' hne => ?_, ?_⟩
  · rw [he _ (by omega) (by omega), he _ (by omega) (by omega)]; exact hN.1 m a b
  · rw [he _ (by omega) (by omega), he _ (by omega) (by omega)]; exact hN.2.1 m a b
  · rw [he _ (by omega) (by omega), he _ (by omega) (by omega), he _ (by omega) (by omega), he _ (by omega) (by omega)]; exact hN.2.2.1 m q a b a' b' hne
  · rw [he _ (by omega) (by omega)]; exact hN.2.2.2
theorem MG_83 {h' : AH} {nw' : Int → Int} (hG : MG T nw h) (e : ah_m h' 1083 = nw') (he : ∀ i, 1 ≤ i → i < 18 → nw' i = nw i) (ho : Off W83 h h') : MG T nw' h' :=
  MG_row hG e (NV_c hG.2.2.2.2 hG.2.2.2.1.2.1.2 he) ho
theorem zdo_hi (hG : MG T nw h) (h1 : 0 ≤ m) (h2 : m < T 1072 4) {i : Int} (hi : i = 0 ∨ 18 ≤ i) : zdo T nw m k i = nw i := by
  have h8 := hG.2.2.2.1.2.1
  have hb := @zat_b h (k % T 1074 4) (k / T 1074 4) T nw hG
  unfold zdo
  rw [if_neg (by omega), if_neg (by omega), if_neg (by omega), if_neg (by omega)]
/-! what is kept -/
theorem l_340 (hG : MG T nw h) {p1 : Int} (e69 : ah_m h 1036 69 = m) (e70 : ah_m h 1036 70 = p) (e77 : ah_m h 1036 77 = t) (hp : 0 ≤ p) (hp2 : p < zP T) (e24 : nw 24 = n) (n1 : 1 ≤ n) (n2 : n ≤ 40) (hQ : ∀ h', ah_m h' 1083 = zke nw n m (p % T 1074 4) (p / T 1074 4) t → Off W83 h h' → Q (.inl none) h') (tl : ALoc) : wpB d 340 64 (some (.inr (.inr 1036)) :: tl) [] h Q := by
  obtain ⟨hC, hx, hy, t1, t2⟩ := zkk hG hp hp2
  have b4 := hG.2.2.2.1.2.2.2.1; have b5 := hG.2.2.2.1.2.2.2.2.1
  have hC' : ¬ T 1074 4 = 0 := by omega
  have f0 : ¬ (0 = 25 + 5 * n - 5) := by omega
  have f1 : ∀ a b : Int, (25 + 5 * n - 5 + a = 25 + 5 * n - 5 + b) = (a = b) := fun a b => by simp
  simp (disch := omega) only [q_340_64, b_340_64, q_340_134, b_340_134, ↓w_iconst, ↓w_bipush, ↓w_aload_n_0, ↓w_iload_n_1, ↓w_istore_n_1, ↓w_iadd, ↓w_isub, ↓w_imul, ↓w_idiv, ↓w_irem, ↓w_getfield, ↓w_iaload, ↓w_iastore, ↓w_nop, ↓w_return, stw_0, stw_i, stw_l, stw_r, ofK0, ofK1, ofK2, lst1, lst2, lkill, kont_none, kont_some, Int.reduceToNat, List.length_cons, List.length_nil, Nat.reduceAdd, Nat.reduceLeDiff, Nat.zero_le, true_and, and_true, if_true, if_false, ne_eq, Int.reduceEq, Int.reduceNeg, not_false_eq_true, not_true_eq_false, ↓reduceIte, Int.reduceLT, Int.reduceLE, and_self, or_true, true_or, or_false, false_or, false_and, and_false, ah_t_w, ah_m_w, ah_n_w, lst1_0, List.tail_cons, w32_i, zbd, lst2_0, mt_1036a hG.1, mt_1074a hG.1, mt_1074b hG.1, mf_47 hG.1, mt_1083a hG.1, mt_1083b hG.1, mf_62 hG.1, g_1074 hG, g_1083 hG, e24, e69, e70, e77, hC', t1, t2, f0]
  refine hQ _ ?_ (Off_w (Off_w (Off_w (Off_w (Off_w Off_rfl rfl) rfl) rfl) rfl) rfl)
  funext i
  unfold zke
  simp only [ah_m_w, true_and, g_1083 hG]
  repeat' split
  all_goals (first | rfl | omega)
theorem l_340s (hG : MG T nw h) (hQ : ∀ h' tl, ah_m h' 1083 = zsh nw → Off W83 h h' → wpB d 340 64 (some (.inr (.inr 1036)) :: tl) [] h' Q) : ∀ (j : Nat) (k : Int) h', 25 ≤ k → k + j = 220 → Off W83 h h' → (∀ i, ah_m h' 1083 i = if 25 ≤ i ∧ i < k then nw (i + 5) else nw i) → wpB d 340 23 [some (.inr (.inr 1036)), some (.inl k)] [] h' Q := by
  intro j
  induction j with
  | zero =>
    intro k h' h0 h1 hO hi
    have hM' : MI h' := MI_off hG.1 hO (fun r i w => W83_f w)
    have hlt : ¬ k < 220 := by omega
    have e : k = 220 := by omega
    simp (disch := omega) only [q_340_23, b_340_23, q_340_50, b_340_50, ↓w_iconst, ↓w_sipush, ↓w_aload_n_0, ↓w_iload_n_1, ↓w_iinc_1, ↓w_iadd, ↓w_getfield, ↓w_iaload, ↓w_iastore, ↓w_goto, ↓w_if_icmp_ge, stw_0, stw_i, stw_l, stw_r, ofK0, ofK1, ofK2, lst1, lst2, lkill, kont_none, kont_some, Int.reduceToNat, List.length_cons, List.length_nil, Nat.reduceAdd, Nat.reduceLeDiff, Nat.zero_le, true_and, and_true, if_true, if_false, ne_eq, Int.reduceEq, Int.reduceNeg, not_false_eq_true, not_true_eq_false, ↓reduceIte, Int.reduceLT, Int.reduceLE, and_self, or_true, true_or, or_false, false_or, false_and, and_false, ah_t_w, ah_m_w, ah_n_w, lst1_0, List.tail_cons, w32_i, zbd, lst2_0, mt_1036a hM', mt_1083a hM', mt_1083b hM', mf_62 hM', hlt]
    exact hQ _ _ (by funext i; rw [hi i, e]; rfl) hO
  | succ j ih =>
    intro k h' h0 h1 hO hi
    have hM' : MI h' := MI_off hG.1 hO (fun r i w => W83_f w)
    have hlt : k < 220 := by omega
    rw [q_340_23]
    simp (disch := omega) only [b_340_23, ↓w_iconst, ↓w_sipush, ↓w_aload_n_0, ↓w_iload_n_1, ↓w_iinc_1, ↓w_iadd, ↓w_getfield, ↓w_iaload, ↓w_iastore, ↓w_goto, ↓w_if_icmp_ge, stw_0, stw_i, stw_l, stw_r, ofK0, ofK1, ofK2, lst1, lst2, lkill, kont_none, kont_some, Int.reduceToNat, List.length_cons, List.length_nil, Nat.reduceAdd, Nat.reduceLeDiff, Nat.zero_le, true_and, and_true, if_true, if_false, ne_eq, Int.reduceEq, Int.reduceNeg, not_false_eq_true, not_true_eq_false, ↓reduceIte, Int.reduceLT, Int.reduceLE, and_self, or_true, true_or, or_false, false_or, false_and, and_false, ah_t_w, ah_m_w, ah_n_w, lst1_0, List.tail_cons, w32_i, zbd, lst2_0, mt_1036a hM', mt_1083a hM', mt_1083b hM', mf_62 hM', hlt]
    refine ih (k + 1) _ (by omega) (by omega) (Off_w hO rfl) (fun i => ?_)
    rw [ah_m_w, hi i, hi (k + 5), if_neg (show ¬ (25 ≤ k + 5 ∧ k + 5 < k) by omega)]
    by_cases e : i = k
    · rw [if_pos ⟨rfl, e⟩, if_pos (by omega), e]
    · rw [if_neg (fun q => e q.2)]
      by_cases e2 : 25 ≤ i ∧ i < k
      · rw [if_pos e2, if_pos (by omega)]
      · rw [if_neg e2, if_neg (by omega)]
theorem c_340 (hG : MG T nw h) (e69 : ah_m h 1036 69 = m) (e70 : ah_m h 1036 70 = p) (e77 : ah_m h 1036 77 = t) (hp : 0 ≤ p) (hp2 : p < zP T) (hk : 0 ≤ nw 24 ∧ nw 24 ≤ 40) (hQ : ∀ h', ah_m h' 1083 = (if ah_m h 1036 75 = 0 then zkp nw m (p % T 1074 4) (p / T 1074 4) t else nw) → Off W83 h h' → Q (.inl none) h') : wpC (d + 1) 340 [.inr (.inr 1036)] h Q := by
  rw [wpC_B]; refine ⟨⟨Nat.zero_lt_succ _, Nat.le_of_ble_eq_true rfl⟩, ?_⟩; simp only [lent]
  by_cases e75 : ah_m h 1036 75 = 0
  · rw [if_pos e75] at hQ
    unfold zkp at hQ
    by_cases e40 : nw 24 = 40
    · rw [if_pos e40] at hQ
      simp (disch := omega) only [q_340_0, b_340_0, q_340_8, b_340_8, ↓w_bipush, ↓w_aload_n_0, ↓w_istore_n_1, ↓w_getfield, ↓w_iaload, ↓w_nop, ↓w_ifCond_eq, ↓w_if_icmp_ne, ↓w_return, stw_0, stw_i, stw_l, stw_r, ofK0, ofK1, ofK2, lst1, lst2, lkill, kont_none, kont_some, Int.reduceToNat, List.length_cons, List.length_nil, Nat.reduceAdd, Nat.reduceLeDiff, Nat.zero_le, true_and, and_true, if_true, if_false, ne_eq, Int.reduceEq, Int.reduceNeg, not_false_eq_true, not_true_eq_false, ↓reduceIte, Int.reduceLT, Int.reduceLE, and_self, or_true, true_or, or_false, false_or, false_and, and_false, ah_t_w, ah_m_w, ah_n_w, lst1_0, List.tail_cons, w32_i, zbd, lst2_0, mt_1036a hG.1, mt_1083a hG.1, mt_1083b hG.1, mf_62 hG.1, g_1083 hG, e75, e40]
      refine l_340s hG (fun h' tl e hO => ?_) 195 25 _ (by omega) (by omega) Off_rfl (fun i => by rw [if_neg (by omega), g_1083 hG])
      have hG' : MG T (zsh nw) h' := MG_83 hG e (fun i a b => by unfold zsh; rw [if_neg (by omega)]) hO
      refine l_340 (p1 := 0) hG' ?_ ?_ ?_ hp hp2 (n := 40) (by unfold zsh; rw [if_neg (by omega)]; exact e40) (by omega) (by omega) (fun h'' e2 hO2 => hQ h'' e2 (Off_tr hO hO2)) tl
      · rw [hO.2 _ _ (by unfold W83; omega)]; exact e69
      · rw [hO.2 _ _ (by unfold W83; omega)]; exact e70
      · rw [hO.2 _ _ (by unfold W83; omega)]; exact e77
    · rw [if_neg e40] at hQ
      simp (disch := omega) only [q_340_0, b_340_0, q_340_8, b_340_8, q_340_53, b_340_53, ↓w_iconst, ↓w_bipush, ↓w_aload_n_0, ↓w_istore_n_1, ↓w_dup2, ↓w_iadd, ↓w_getfield, ↓w_iaload, ↓w_iastore, ↓w_nop, ↓w_ifCond_eq, ↓w_if_icmp_ne, ↓w_return, stw_0, stw_i, stw_l, stw_r, ofK0, ofK1, ofK2, lst1, lst2, lkill, kont_none, kont_some, Int.reduceToNat, List.length_cons, List.length_nil, Nat.reduceAdd, Nat.reduceLeDiff, Nat.zero_le, true_and, and_true, if_true, if_false, ne_eq, Int.reduceEq, Int.reduceNeg, not_false_eq_true, not_true_eq_false, ↓reduceIte, Int.reduceLT, Int.reduceLE, and_self, or_true, true_or, or_false, false_or, false_and, and_false, ah_t_w, ah_m_w, ah_n_w, lst1_0, List.tail_cons, w32_i, zbd, lst2_0, mt_1036a hG.1, mt_1083a hG.1, mt_1083b hG.1, mf_62 hG.1, g_1083 hG, e75, e40]
      have hO : Off W83 h (ah_w h 1083 24 (nw 24 + 1)) := Off_w Off_rfl rfl
      have e : ah_m (ah_w h 1083 24 (nw 24 + 1)) 1083 = zin nw := by rw [ah_m_wr, g_1083 hG]; rfl
      have hG' : MG T (zin nw) (ah_w h 1083 24 (nw 24 + 1)) := MG_83 hG e (fun i a b => by unfold zin; rw [if_neg (by omega)]) hO
      refine l_340 (p1 := 0) hG' ?_ ?_ ?_ hp hp2 (n := nw 24 + 1) (by unfold zin; rw [if_pos rfl]) (by omega) (by omega) (fun h'' e2 hO2 => hQ h'' e2 (Off_tr hO hO2)) _
      · rw [hO.2 _ _ (by unfold W83; omega)]; exact e69
      · rw [hO.2 _ _ (by unfold W83; omega)]; exact e70
      · rw [hO.2 _ _ (by unfold W83; omega)]; exact e77
  · rw [if_neg e75] at hQ
    simp (disch := omega) only [q_340_0, b_340_0, ↓w_aload_n_0, ↓w_getfield, ↓w_ifCond_eq, ↓w_return, stw_0, stw_i, stw_l, stw_r, ofK0, ofK1, ofK2, lst1, lst2, lkill, kont_none, kont_some, Int.reduceToNat, List.length_cons, List.length_nil, Nat.reduceAdd, Nat.reduceLeDiff, Nat.zero_le, true_and, and_true, if_true, if_false, ne_eq, Int.reduceEq, Int.reduceNeg, not_false_eq_true, not_true_eq_false, ↓reduceIte, Int.reduceLT, Int.reduceLE, and_self, or_true, true_or, or_false, false_or, false_and, and_false, ah_t_w, ah_m_w, ah_n_w, lst1_0, List.tail_cons, w32_i, zbd, lst2_0, mt_1036a hG.1, e75]
    exact hQ _ (g_1083 hG) Off_rfl
/-! a move is played -/
def Wf (r i : Int) : Prop := r = 1083 ∨ Wq r i
def Wy (r i : Int) : Prop := r = 1083 ∨ (1085 ≤ r ∧ r ≤ 1088) ∨ Wq r i ∨ (r = 1036 ∧ (i = 71 ∨ i = 72 ∨ i = 77))
theorem zharm_nn {o day : Int} (ht : 0 ≤ t) : 0 ≤ zharm T t k o day := by
  unfold zharm; split
  · exact ht
  · split <;> omega
theorem Wf_f {r i : Int} (w : Wf r i) : fre r i := by unfold Wf Wq at w; unfold fre; omega
theorem Wy_f {r i : Int} (w : Wy r i) : fre r i := by unfold Wy Wq at w; unfold fre; omega
theorem MG_gen {W : Int → Int → Prop} {h' : AH} {nw' : Int → Int} (hG : MG T nw h) (e : ah_m h' 1083 = nw') (hN : NV T nw') (ho : Off W h h') (hW : ∀ r i, W r i → fre r i ∧ ¬ (1072 ≤ r ∧ r ≤ 1082)) : MG T nw' h' :=
  ⟨MI_off hG.1 ho (fun r i w => (hW r i w).1), (stt_off ho (fun r i w => (hW r i w).2)).trans hG.2.1, e, hG.2.2.2.1, hN⟩
theorem zhf_0 {ck day : Int} : zhf T t ck x y day 0 nw = nw := by funext i; unfold zhf; rw [if_neg (by omega)]
theorem zhf_hi {ck day i : Int} (hi : i < 18) : zhf T t ck x y day n nw i = nw i := by unfold zhf; rw [if_neg (by omega)]
theorem l_333 {h1 : AH} {ck th : Int} (hG : MG T nw h1) (hH : HV T) (e71 : ah_m h1 1036 71 = t) (e72 : ah_m h1 1036 72 = ck) (ht : 0 ≤ t ∧ t ≤ 1000) (hk : 0 ≤ ck ∧ ck ≤ 1) (hd : 0 ≤ nw 0 ∧ nw 0 ≤ 5000) (hx : 0 ≤ x ∧ x ≤ 5) (hy : 0 ≤ y ∧ y ≤ 5) (hF : ∀ f, 0 ≤ f → f < 6 → 0 ≤ nw (18 + f) ∧ nw (18 + f) ≤ 999)
    (hQ : ∀ h' tl, ah_m h' 1083 = zhf T t ck x y (nw 0) (T 1072 5) nw → Off Wf h1 h' → wpB (d + 5) 333 196 (some (.inr (.inr 1036)) :: tl) [] h' Q) :
    ∀ (j : Nat) (f : Int) tl h', 0 ≤ f → f + j = T 1072 5 → Off Wf h1 h' → ah_m h' 1083 = zhf T t ck x y (nw 0) f nw → wpB (d + 5) 333 104 (some (.inr (.inr 1036)) :: some (.inl x) :: some (.inl y) :: some (.inl th) :: some (.inl f) :: tl) [] h' Q := by
  have h5 := hG.2.2.2.1.2.2.1
  have hT := hG.2.2.2.1
  intro j
  induction j with
  | zero =>
    intro f tl h' f0 f1 hO e
    have hG' : MG T (zhf T t ck x y (nw 0) f nw) h' := MG_gen hG e (NV_c hG.2.2.2.2 hT.2.1.2 (fun i a b => zhf_hi b)) hO (fun r i w => ⟨Wf_f w, by unfold Wf Wq at w; omega⟩)
    have hlt : ¬ f < T 1072 5 := by omega
    have ef : f = T 1072 5 := by omega
    simp (disch := omega) only [q_333_104, b_333_104, ↓w_iconst, ↓w_bipush, ↓w_aload_n_0, ↓w_iload_n_1, ↓w_iload_n_2, ↓w_iload_4, ↓w_lload_5, ↓w_lstore, ↓w_iadd, ↓w_imul, ↓w_lcmp, ↓w_i2l, ↓w_getfield, ↓w_iaload, ↓w_goto, ↓w_if_icmp_ge, ↓w_ifCond_le, ↓w_invokevirtual_0, ↓w_invokevirtual_4, stw_0, stw_i, stw_l, stw_r, ofK0, ofK1, ofK2, lst1, lst2, lkill, kont_none, kont_some, Int.reduceToNat, List.length_cons, List.length_nil, Nat.reduceAdd, Nat.reduceLeDiff, Nat.zero_le, true_and, and_true, if_true, if_false, ne_eq, Int.reduceEq, Int.reduceNeg, not_false_eq_true, not_true_eq_false, ↓reduceIte, Int.reduceLT, Int.reduceLE, and_self, or_true, true_or, or_false, false_or, false_and, and_false, ah_t_w, ah_m_w, ah_n_w, lst1_0, List.tail_cons, w32_i, zbd, lst2_0, lc_gt, lc_lt, lc_eq, mt_1036a hG'.1, mt_1078a hG'.1, mt_1078b hG'.1, mf_51 hG'.1, mt_1083a hG'.1, mt_1083b hG'.1, mf_62 hG'.1, g_1078 hG', g_1083 hG', c_299 hG', hlt]
    exact hQ _ _ (ef ▸ e) hO
  | succ j ih =>
    intro f tl h' f0 f1 hO e
    have hG' : MG T (zhf T t ck x y (nw 0) f nw) h' := MG_gen hG e (NV_c hG.2.2.2.2 hT.2.1.2 (fun i a b => zhf_hi b)) hO (fun r i w => ⟨Wf_f w, by unfold Wf Wq at w; omega⟩)
    have hlt : f < T 1072 5 := by omega
    have ht8 := hT.2.2.2.2.2.2.2.1 f f0 (by omega)
    have f71 : ah_m h' 1036 71 = t := by rw [hO.2 _ _ (by unfold Wf Wq; omega)]; exact e71
    have f72 : ah_m h' 1036 72 = ck := by rw [hO.2 _ _ (by unfold Wf Wq; omega)]; exact e72
    have ed : zhf T t ck x y (nw 0) f nw 0 = nw 0 := zhf_hi (by decide)
    have ef : zhf T t ck x y (nw 0) f nw (18 + f) = nw (18 + f) := by unfold zhf; rw [if_neg (by omega)]
    have hf := hF f f0 (by omega)
    rw [q_333_104]
    simp (disch := omega) only [b_333_104, ↓w_iconst, ↓w_bipush, ↓w_aload_n_0, ↓w_iload_n_1, ↓w_iload_n_2, ↓w_iload_4, ↓w_lload_5, ↓w_lstore, ↓w_iadd, ↓w_imul, ↓w_lcmp, ↓w_i2l, ↓w_getfield, ↓w_iaload, ↓w_goto, ↓w_if_icmp_ge, ↓w_ifCond_le, ↓w_invokevirtual_0, ↓w_invokevirtual_4, stw_0, stw_i, stw_l, stw_r, ofK0, ofK1, ofK2, lst1, lst2, lkill, kont_none, kont_some, Int.reduceToNat, List.length_cons, List.length_nil, Nat.reduceAdd, Nat.reduceLeDiff, Nat.zero_le, true_and, and_true, if_true, if_false, ne_eq, Int.reduceEq, Int.reduceNeg, not_false_eq_true, not_true_eq_false, ↓reduceIte, Int.reduceLT, Int.reduceLE, and_self, or_true, true_or, or_false, false_or, false_and, and_false, ah_t_w, ah_m_w, ah_n_w, lst1_0, List.tail_cons, w32_i, zbd, lst2_0, lc_gt, lc_lt, lc_eq, mt_1036a hG'.1, mt_1078a hG'.1, mt_1078b hG'.1, mf_51 hG'.1, mt_1083a hG'.1, mt_1083b hG'.1, mf_62 hG'.1, g_1078 hG', g_1083 hG', c_299 hG', hlt]
    refine c_334 hG' hH f71 f72 ht hk (by rw [ed]; exact hd) (by omega) (by omega) (by omega) (by omega) (fun h2 hG2 hO2 => ?_)
    rw [ed]
    have hn := zharm_nn (T := T) (t := t) (k := ck) (o := zoff (T 1078 (18 + 3 * f)) (T 1078 (19 + 3 * f)) x y) (day := nw 0) ht.1
    generalize eh : zharm T t ck (zoff (T 1078 (18 + 3 * f)) (T 1078 (19 + 3 * f)) x y) (nw 0) = hh at hn
    have fin : ∀ tl v, v = (if nw (18 + f) < hh then 0 else nw (18 + f) - hh) → wpB (d + 5) 333 104 (some (.inr (.inr 1036)) :: some (.inl x) :: some (.inl y) :: some (.inl th) :: some (.inl (f + 1)) :: tl) [] (ah_w h2 1083 (18 + f) v) Q := by
      intro tl v hv
      refine ih (f + 1) tl _ (by omega) (by omega) (Off_w (Off_tr hO (Off_mono (fun r i w => Or.inr w) hO2)) (Or.inl rfl)) ?_
      rw [ah_m_wr, g_1083 hG2]
      funext i
      by_cases ei : i = 18 + f
      · subst ei
        have ei : 18 + f - 18 = f := by omega
        rw [if_pos rfl]
        unfold zhf
        rw [if_pos (by omega), ei, eh]; exact hv
      · rw [if_neg ei]
        have e4 : (18 ≤ i ∧ i < 18 + (f + 1)) = (18 ≤ i ∧ i < 18 + f) := by simp; omega
        unfold zhf
        simp only [e4]
    by_cases g : nw (18 + f) < hh
    · rw [if_pos g] at fin
      simp (disch := omega) only [b_333_104, q_333_189, b_333_189, ↓w_iconst, ↓w_bipush, ↓w_aload_n_0, ↓w_iload_n_1, ↓w_iload_n_2, ↓w_iload_4, ↓w_iinc_4, ↓w_lload_5, ↓w_lstore, ↓w_iadd, ↓w_imul, ↓w_lcmp, ↓w_i2l, ↓w_getfield, ↓w_iaload, ↓w_iastore, ↓w_goto, ↓w_if_icmp_ge, ↓w_ifCond_le, ↓w_invokevirtual_0, ↓w_invokevirtual_4, stw_0, stw_i, stw_l, stw_r, ofK0, ofK1, ofK2, lst1, lst2, lkill, kont_none, kont_some, Int.reduceToNat, List.length_cons, List.length_nil, Nat.reduceAdd, Nat.reduceLeDiff, Nat.zero_le, true_and, and_true, if_true, if_false, ne_eq, Int.reduceEq, Int.reduceNeg, not_false_eq_true, not_true_eq_false, ↓reduceIte, Int.reduceLT, Int.reduceLE, and_self, or_true, true_or, or_false, false_or, false_and, and_false, ah_t_w, ah_m_w, ah_n_w, lst1_0, List.tail_cons, w32_i, zbd, lst2_0, lc_gt, lc_lt, lc_eq, mt_1036a hG2.1, mt_1078a hG2.1, mt_1078b hG2.1, mf_51 hG2.1, mt_1083a hG2.1, mt_1083b hG2.1, mf_62 hG2.1, g_1078 hG2, g_1083 hG2, c_299 hG2, ef, g]
      exact fin _ _ rfl
    · rw [if_neg g] at fin
      simp (disch := omega) only [b_333_104, q_333_175, b_333_175, q_333_189, b_333_189, ↓w_iconst, ↓w_bipush, ↓w_aload_n_0, ↓w_iload_n_1, ↓w_iload_n_2, ↓w_iload_4, ↓w_iinc_4, ↓w_lload_5, ↓w_lstore, ↓w_iadd, ↓w_isub, ↓w_imul, ↓w_lcmp, ↓w_i2l, ↓w_l2i, ↓w_getfield, ↓w_iaload, ↓w_iastore, ↓w_nop, ↓w_goto, ↓w_if_icmp_ge, ↓w_ifCond_le, ↓w_invokevirtual_0, ↓w_invokevirtual_4, stw_0, stw_i, stw_l, stw_r, ofK0, ofK1, ofK2, lst1, lst2, lkill, kont_none, kont_some, Int.reduceToNat, List.length_cons, List.length_nil, Nat.reduceAdd, Nat.reduceLeDiff, Nat.zero_le, true_and, and_true, if_true, if_false, ne_eq, Int.reduceEq, Int.reduceNeg, not_false_eq_true, not_true_eq_false, ↓reduceIte, Int.reduceLT, Int.reduceLE, and_self, or_true, true_or, or_false, false_or, false_and, and_false, ah_t_w, ah_m_w, ah_n_w, lst1_0, List.tail_cons, w32_i, zbd, lst2_0, lc_gt, lc_lt, lc_eq, mt_1036a hG2.1, mt_1078a hG2.1, mt_1078b hG2.1, mf_51 hG2.1, mt_1083a hG2.1, mt_1083b hG2.1, mf_62 hG2.1, g_1078 hG2, g_1083 hG2, c_299 hG2, ef, g]
      exact fin _ _ rfl
theorem zwo_b2 (hG : MG T nw h) : 0 ≤ ztk T nw p ∧ ztk T nw p ≤ 99 := by
  have h8 := hG.2.2.2.1.2.1
  have hb := @zat_b h (p % T 1074 4) (p / T 1074 4) T nw hG
  unfold ztk; split
  · decide
  · exact zwo_b hG (by omega) (by omega)
theorem zb_b {b : Bool} : 0 ≤ zb b ∧ zb b ≤ 1 := by cases b <;> decide
theorem c_333 {th : Int} (hG : MG T nw h) (hH : HV T) (hF : FV nw) (e69 : ah_m h 1036 69 = m) (e70 : ah_m h 1036 70 = p) (e75 : ah_m h 1036 75 = th) (h1 : 0 ≤ m) (h2 : m < T 1072 4) (hp : 0 ≤ p) (hp2 : p < zP T)
    (hQ : ∀ h', MG T (zpy T nw th m p) h' → Off Wy h h' → ah_m h' 1036 77 = ztl' T nw p → Q (.inl none) h') : wpC (d + 6) 333 [.inr (.inr 1036)] h Q := by
  obtain ⟨hC, hx, hy, t1, t2⟩ := zkk hG hp hp2
  have b4 := hG.2.2.2.1.2.2.2.1; have b5 := hG.2.2.2.1.2.2.2.2.1; have h8 := hG.2.2.2.1.2.1
  have hT := hG.2.2.2.1
  have h5 := hT.2.2.1
  have hC' : ¬ T 1074 4 = 0 := by omega
  have hb := @zat_b h (p % T 1074 4) (p / T 1074 4) T nw hG
  have htk := @zwo_b2 h p T nw hG
  rw [wpC_B]; refine ⟨⟨Nat.zero_lt_succ _, Nat.le_of_ble_eq_true rfl⟩, ?_⟩; simp only [lent]
  generalize ex : p % T 1074 4 = X at *
  generalize ey : p / T 1074 4 = Y at *
  generalize ez : zat T nw X Y = tz at *
  -- from the does on
  have fin : ∀ z, z = ztl' T nw p → wpB (d + 5) 333 63 [some (.inr (.inr 1036)), some (.inl X), some (.inl Y), some (.inl tz)] [.inr (.inl (ztk T nw p)), .inr (.inr 1036)] (ah_w h 1036 77 z) Q := by
    intro z ez
    have hO1 : Off (fun r i => r = 1036 ∧ (i = 71 ∨ i = 77)) h (ah_w (ah_w h 1036 77 z) 1036 71 (ztk T nw p)) := Off_w (Off_w Off_rfl (by omega)) (by omega)
    have g71 : ah_m (ah_w (ah_w h 1036 77 z) 1036 71 (ztk T nw p)) 1036 71 = ztk T nw p := rfl
    have g77 : ah_m (ah_w (ah_w h 1036 77 z) 1036 71 (ztk T nw p)) 1036 77 = ztl' T nw p := by rw [← ez]; rfl
    simp (disch := omega) only [q_333_63, b_333_63, ↓w_iconst, ↓w_lconst, ↓w_aload_n_0, ↓w_getfield, ↓w_putfield_1, ↓w_iaload, ↓w_goto, ↓w_ifCond_eq, ↓w_invokevirtual_1, ↓w_invokevirtual_3, stw_0, stw_i, stw_l, stw_r, ofK0, ofK1, ofK2, lst1, lst2, lkill, kont_none, kont_some, Int.reduceToNat, List.length_cons, List.length_nil, Nat.reduceAdd, Nat.reduceLeDiff, Nat.zero_le, true_and, and_true, if_true, if_false, ne_eq, Int.reduceEq, Int.reduceNeg, not_false_eq_true, not_true_eq_false, ↓reduceIte, Int.reduceLT, Int.reduceLE, and_self, or_true, true_or, or_false, false_or, false_and, and_false, ah_t_w, ah_m_w, ah_n_w, lst1_0, List.tail_cons, w32_i, zbd, lst2_0, mt_1036a hG.1, mt_1083a hG.1, mt_1083b hG.1, mf_62 hG.1, g_1083 hG, c_310 hG, e69, e70]
    generalize ah_w (ah_w h 1036 77 z) 1036 71 (ztk T nw p) = h1' at hO1 g71 g77
    have hG1 : MG T nw h1' := MG_off hG hO1 (fun r i w => by unfold fre; omega)
    have g69 : ah_m h1' 1036 69 = m := by rw [hO1.2 _ _ (by omega)]; exact e69
    have g70 : ah_m h1' 1036 70 = p := by rw [hO1.2 _ _ (by omega)]; exact e70
    have g75 : ah_m h1' 1036 75 = th := by rw [hO1.2 _ _ (by omega)]; exact e75
    refine c_309 hG1 h1 (by omega) hp hp2 (by decide) (by decide) (fun h2' hD => ?_)
    have hG2 := MG_do hG1 h1 h2 hp hp2 hD
    have hO2 := hD.2.2.2.2.2
    have fin2 : ∀ tl, wpB (d + 5) 333 98 (some (.inr (.inr 1036)) :: some (.inl X) :: some (.inl Y) :: some (.inl tz) :: tl) [.inr (.inl (zck T nw m p)), .inr (.inr 1036)] h2' Q := by
      intro tl
      have hck : 0 ≤ zck T nw m p ∧ zck T nw m p ≤ 1 := zb_b
      simp (disch := omega) only [q_333_98, b_333_98, ↓w_iconst, ↓w_istore, ↓w_putfield_1, ↓w_nop, stw_0, stw_i, stw_l, stw_r, ofK0, ofK1, ofK2, lst1, lst2, lkill, kont_none, kont_some, Int.reduceToNat, List.length_cons, List.length_nil, Nat.reduceAdd, Nat.reduceLeDiff, Nat.zero_le, true_and, and_true, if_true, if_false, ne_eq, Int.reduceEq, Int.reduceNeg, not_false_eq_true, not_true_eq_false, ↓reduceIte, Int.reduceLT, Int.reduceLE, and_self, or_true, true_or, or_false, false_or, false_and, and_false, ah_t_w, ah_m_w, ah_n_w, lst1_0, List.tail_cons, w32_i, zbd, lst2_0, mt_1036a hG2.1]
      have hG3 : MG T (zdo T nw m p) (ah_w h2' 1036 72 (zck T nw m p)) := MG_f hG2 (by omega)
      refine l_333 (t := ztk T nw p) (ck := zck T nw m p) hG3 hH ?_ (by rw [ah_m_w, if_pos ⟨rfl, rfl⟩]) (by omega) hck (by rw [zdo_hi hG h1 h2 (Or.inl rfl)]; exact hF.1) (by omega) (by omega) (fun f a b => by rw [zdo_hi hG h1 h2 (Or.inr (by omega))]; exact hF.2.1 f a b) (fun h4 tl e4 hO4 => ?_) (T 1072 5).toNat 0 _ _ (by omega) (by omega) Off_rfl (by rw [g_1083 hG3, zhf_0])
      · rw [ah_m_w, if_neg (by omega), hO2.2 _ _ (by unfold Wd; omega)]; exact g71
      · have ed : zdo T nw m p 0 = nw 0 := zdo_hi hG h1 h2 (Or.inl rfl)
        have e4' : ah_m h4 1083 = zph T nw m p := by rw [e4, ed]; unfold zph; rw [ex, ey]
        have hG4 : MG T (zph T nw m p) h4 := MG_gen hG3 e4' (NV_c hG3.2.2.2.2 hT.2.1.2 (fun i a b => by unfold zph; exact zhf_hi b)) hO4 (fun r i w => ⟨Wf_f w, by unfold Wf Wq at w; omega⟩)
        have hO24 : Off (fun r i => r = 1083 ∨ (1085 ≤ r ∧ r ≤ 1088) ∨ Wq r i ∨ (r = 1036 ∧ i = 72)) h1' h4 := by
          refine Off_tr (Off_mono (fun r i w => ?_) hO2) (Off_tr (Off_w Off_rfl ?_) (Off_mono (fun r i w => ?_) hO4))
          · unfold Wd at w; omega
          · omega
          · unfold Wf at w; rcases w with w | w
            · exact Or.inl w
            · exact Or.inr (Or.inr (Or.inl w))
        have g4 : ∀ i, i ≠ 72 → i ≠ 73 → i ≠ 59 → i ≠ 117 → ah_m h4 1036 i = ah_m h1' 1036 i := fun i a b c d => hO24.2 _ _ (by unfold Wq; omega)
        have e24 : zph T nw m p 24 = nw 24 := by
          unfold zph zhf; rw [if_neg (by omega)]; exact zdo_hi hG h1 h2 (Or.inr (by decide))
        simp (disch := omega) only [q_333_196, b_333_196, ↓w_aload_n_0, ↓w_return, ↓w_invokevirtual_0, stw_0, stw_i, stw_l, stw_r, ofK0, ofK1, ofK2, lst1, lst2, lkill, kont_none, kont_some, Int.reduceToNat, List.length_cons, List.length_nil, Nat.reduceAdd, Nat.reduceLeDiff, Nat.zero_le, true_and, and_true, if_true, if_false, ne_eq, Int.reduceEq, Int.reduceNeg, not_false_eq_true, not_true_eq_false, ↓reduceIte, Int.reduceLT, Int.reduceLE, and_self, or_true, true_or, or_false, false_or, false_and, and_false, ah_t_w, ah_m_w, ah_n_w, lst1_0, List.tail_cons, w32_i, zbd, lst2_0, mt_1036a hG4.1]
        refine c_340 hG4 ((g4 69 (by decide) (by decide) (by decide) (by decide)).trans g69) ((g4 70 (by decide) (by decide) (by decide) (by decide)).trans g70) ((g4 77 (by decide) (by decide) (by decide) (by decide)).trans g77) hp hp2 (by rw [e24]; exact hF.2.2) (fun h5 e5 hO5 => ?_)
        simp (disch := omega) only [b_333_196, ↓w_aload_n_0, ↓w_return, ↓w_invokevirtual_0, stw_0, stw_i, stw_l, stw_r, ofK0, ofK1, ofK2, lst1, lst2, lkill, kont_none, kont_some, Int.reduceToNat, List.length_cons, List.length_nil, Nat.reduceAdd, Nat.reduceLeDiff, Nat.zero_le, true_and, and_true, if_true, if_false, ne_eq, Int.reduceEq, Int.reduceNeg, not_false_eq_true, not_true_eq_false, ↓reduceIte, Int.reduceLT, Int.reduceLE, and_self, or_true, true_or, or_false, false_or, false_and, and_false, ah_t_w, ah_m_w, ah_n_w, lst1_0, List.tail_cons, w32_i, zbd, lst2_0]
        rw [g4 75 (by decide) (by decide) (by decide) (by decide), g75] at e5
        have e5' : ah_m h5 1083 = zpy T nw th m p := by rw [e5]; unfold zpy; rw [ex, ey]
        have hN5 : NV T (zpy T nw th m p) := by
          refine NV_c hG4.2.2.2.2 hT.2.1.2 (fun i a b => ?_)
          have h24 := hF.2.2
          rw [← e24] at h24
          unfold zpy; split
          · unfold zkp; split
            · unfold zke zsh; repeat' rw [if_neg (by omega)]
            · unfold zke zin; repeat' rw [if_neg (by omega)]
          · rfl
        refine hQ h5 (MG_gen hG4 e5' hN5 hO5 (fun r i w => ⟨W83_f w, by unfold W83 at w; omega⟩)) ?_ ?_
        · refine Off_tr (Off_mono (fun r i w => ?_) hO1) (Off_tr (Off_mono (fun r i w => ?_) hO24) (Off_mono (fun r i w => ?_) hO5))
          · unfold Wy; omega
          · unfold Wy; rcases w with w | w | w | w
            · exact Or.inl w
            · exact Or.inr (Or.inl w)
            · exact Or.inr (Or.inr (Or.inl w))
            · exact Or.inr (Or.inr (Or.inr ⟨w.1, by omega⟩))
          · exact Or.inl w
        · rw [hO5.2 _ _ (by unfold W83; omega), g4 77 (by decide) (by decide) (by decide) (by decide)]; exact g77
    cases e8 : zchk T (zdo T nw m p) (zdo T nw m p 1)
    · have : zck T nw m p = 0 := by unfold zck; rw [e8]; rfl
      rw [this] at fin2
      simp (disch := omega) only [b_333_63, q_333_97, b_333_97, ↓w_iconst, ↓w_lconst, ↓w_aload_n_0, ↓w_getfield, ↓w_putfield_1, ↓w_iaload, ↓w_nop, ↓w_goto, ↓w_ifCond_eq, ↓w_invokevirtual_1, ↓w_invokevirtual_3, stw_0, stw_i, stw_l, stw_r, ofK0, ofK1, ofK2, lst1, lst2, lkill, kont_none, kont_some, Int.reduceToNat, List.length_cons, List.length_nil, Nat.reduceAdd, Nat.reduceLeDiff, Nat.zero_le, true_and, and_true, if_true, if_false, ne_eq, Int.reduceEq, Int.reduceNeg, not_false_eq_true, not_true_eq_false, ↓reduceIte, Int.reduceLT, Int.reduceLE, and_self, or_true, true_or, or_false, false_or, false_and, and_false, ah_t_w, ah_m_w, ah_n_w, lst1_0, List.tail_cons, w32_i, zbd, lst2_0, mt_1036a hG2.1, mt_1083a hG2.1, mt_1083b hG2.1, mf_62 hG2.1, g_1083 hG2, c_310 hG2, e8, zb_f]
      exact fin2 _
    · have : zck T nw m p = 1 := by unfold zck; rw [e8]; rfl
      rw [this] at fin2
      simp (disch := omega) only [b_333_63, q_333_97, b_333_97, ↓w_iconst, ↓w_lconst, ↓w_aload_n_0, ↓w_getfield, ↓w_putfield_1, ↓w_iaload, ↓w_nop, ↓w_goto, ↓w_ifCond_eq, ↓w_invokevirtual_1, ↓w_invokevirtual_3, stw_0, stw_i, stw_l, stw_r, ofK0, ofK1, ofK2, lst1, lst2, lkill, kont_none, kont_some, Int.reduceToNat, List.length_cons, List.length_nil, Nat.reduceAdd, Nat.reduceLeDiff, Nat.zero_le, true_and, and_true, if_true, if_false, ne_eq, Int.reduceEq, Int.reduceNeg, not_false_eq_true, not_true_eq_false, ↓reduceIte, Int.reduceLT, Int.reduceLE, and_self, or_true, true_or, or_false, false_or, false_and, and_false, ah_t_w, ah_m_w, ah_n_w, lst1_0, List.tail_cons, w32_i, zbd, lst2_0, mt_1036a hG2.1, mt_1083a hG2.1, mt_1083b hG2.1, mf_62 hG2.1, g_1083 hG2, c_310 hG2, e8, zb_t]
      exact fin2 _
  have hG7 : ∀ a, MG T nw (ah_w h 1036 77 a) := fun a => MG_f hG (by omega)
  by_cases e9 : tz = -1
  · have k1 : ztk T nw p = 0 := by unfold ztk; rw [ex, ey, ez, if_pos e9]
    have k2 : ztl' T nw p = 255 := by unfold ztl'; rw [ex, ey, ez, if_pos e9]
    rw [k1, k2] at fin
    simp (disch := omega) only [q_333_0, b_333_0, q_333_44, b_333_44, ↓w_iconst, ↓w_sipush, ↓w_lconst, ↓w_aload_n_0, ↓w_iload_n_1, ↓w_iload_n_2, ↓w_iload_n_3, ↓w_istore_n_1, ↓w_istore_n_2, ↓w_istore_n_3, ↓w_idiv, ↓w_irem, ↓w_getfield, ↓w_putfield_0, ↓w_iaload, ↓w_goto, ↓w_if_icmp_ne, ↓w_invokevirtual_2, stw_0, stw_i, stw_l, stw_r, ofK0, ofK1, ofK2, lst1, lst2, lkill, kont_none, kont_some, Int.reduceToNat, List.length_cons, List.length_nil, Nat.reduceAdd, Nat.reduceLeDiff, Nat.zero_le, true_and, and_true, if_true, if_false, ne_eq, Int.reduceEq, Int.reduceNeg, not_false_eq_true, not_true_eq_false, ↓reduceIte, Int.reduceLT, Int.reduceLE, and_self, or_true, true_or, or_false, false_or, false_and, and_false, ah_t_w, ah_m_w, ah_n_w, lst1_0, List.tail_cons, w32_i, zbd, lst2_0, mt_1036a hG.1, mt_1074a hG.1, mt_1074b hG.1, mf_47 hG.1, g_1074 hG, c_296 hG, e70, hC', t1, t2, ez, e9]
    have := fin 255 rfl
    rw [e9] at this
    exact this
  · have k1 : ztk T nw p = zwo T tz := by unfold ztk; rw [ex, ey, ez, if_neg e9]
    have k2 : ztl' T nw p = tz := by unfold ztl'; rw [ex, ey, ez, if_neg e9]
    rw [k1, k2] at fin
    simp (disch := omega) only [q_333_0, b_333_0, q_333_43, b_333_43, q_333_44, b_333_44, q_333_57, b_333_57, ↓w_iconst, ↓w_sipush, ↓w_lconst, ↓w_aload_n_0, ↓w_iload_n_1, ↓w_iload_n_2, ↓w_iload_n_3, ↓w_istore_n_1, ↓w_istore_n_2, ↓w_istore_n_3, ↓w_idiv, ↓w_irem, ↓w_i2l, ↓w_getfield, ↓w_putfield_0, ↓w_iaload, ↓w_nop, ↓w_goto, ↓w_if_icmp_ne, ↓w_invokevirtual_1, ↓w_invokevirtual_2, stw_0, stw_i, stw_l, stw_r, ofK0, ofK1, ofK2, lst1, lst2, lkill, kont_none, kont_some, Int.reduceToNat, List.length_cons, List.length_nil, Nat.reduceAdd, Nat.reduceLeDiff, Nat.zero_le, true_and, and_true, if_true, if_false, ne_eq, Int.reduceEq, Int.reduceNeg, not_false_eq_true, not_true_eq_false, ↓reduceIte, Int.reduceLT, Int.reduceLE, and_self, or_true, true_or, or_false, false_or, false_and, and_false, ah_t_w, ah_m_w, ah_n_w, lst1_0, List.tail_cons, w32_i, zbd, lst2_0, mt_1036a hG.1, mt_1074a hG.1, mt_1074b hG.1, mf_47 hG.1, g_1074 hG, c_296 hG, c_315 hG, e70, hC', t1, t2, ez, e9, c_315 (hG7 _)]
    exact fin tz rfl
end DAY
