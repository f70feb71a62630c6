/-! ===== X: a day passes ===== -/
/-- a choice: none, or a move by its number -/
def zcpk (T : Int → Int → Int) (nw : Int → Int) (c : Int × Int × Int) : Prop := c.1 = -1 ∨ zpk (zmv T nw) 0 c.1 = some c.2
def Wps (s r i : Int) : Prop := (s ≤ r ∧ r ≤ s + 44 ∧ ¬ (r = s ∧ ((3 ≤ i ∧ i ≤ 6) ∨ i = 11))) ∨ Wmv 19 r i ∨ r = 14
section Y6
variable {W : Int → Int → Prop} {d : Nat} {h h' h1 h0 : AH} {Q : QQ} {x y z m k s l w a b v n p r o i f : Int} {S T T' : Int → Int → Int} {t nw nw' pt of : Int → Int} {tl : ALoc} {c : Int × Int × Int}
set_option maxHeartbeats 4000000
theorem XMl_pk {q : Int × Int} : ∀ (L : List (Int × Int)) (i : Int), XMl T v h L i → zpk L i w = some q → (ah_m h (v + 1) w = q.1 ∧ ah_m h (v + 2) w = zp5 T q.2) ∧ i ≤ w ∧ w < i + L.length := by
  intro L
  induction L with
  | nil => intro i _ e; cases e
  | cons q' L ih =>
    intro i hx e
    unfold zpk at e
    by_cases g : i = w
    · rw [if_pos g] at e; injection e with e; subst e; rw [← g]
      exact ⟨hx.1, by omega, by simp; omega⟩
    · rw [if_neg g] at e
      have := ih (i + 1) hx.2 e
      exact ⟨this.1, by omega, by have := this.2.2; simp; omega⟩
theorem zcb_pk {g : Int × Int → Int} : ∀ (l : List (Int × Int)) (n b : Int) (c : Int × Int × Int), zcb g l n b c = c ∨ (n ≤ (zcb g l n b c).1 ∧ zpk l n (zcb g l n b c).1 = some (zcb g l n b c).2) := by
  intro l
  induction l with
  | nil => intro n b c; exact Or.inl rfl
  | cons x l ih =>
    intro n b c
    simp only [zcb]
    by_cases gg : c.1 = -1 ∨ b < g x
    · rw [if_pos gg]
      rcases ih (n + 1) (g x) (n, x.1, x.2) with q | q
      · rw [q]; refine Or.inr ⟨Int.le_refl _, ?_⟩; simp [zpk]
      · refine Or.inr ⟨by omega, ?_⟩; simp only [zpk]; rw [if_neg (by omega)]; exact q.2
    · rw [if_neg gg]
      rcases ih (n + 1) b c with q | q
      · exact Or.inl q
      · refine Or.inr ⟨by omega, ?_⟩; simp only [zpk]; rw [if_neg (by omega)]; exact q.2
theorem zbe_cp {j : Nat} : zcpk T nw (zbe T nw j a b) := by
  unfold zbe
  split
  · exact Or.inl rfl
  · rcases @zcb_pk (fun x => -zval T j (zdo T nw x.1 x.2)) (zmv T nw) 0 0 (-1, a, b) with q | q
    · rw [q]; exact Or.inl rfl
    · exact Or.inr q.2
theorem zpc_cp : zcpk T nw (zpc T nw w a b) := by
  unfold zpc
  split
  · exact Or.inl rfl
  · split
    · exact Or.inl rfl
    · rename_i e; exact Or.inr e
theorem zcpk_v (hT : TV T) (hc : zcpk T nw c) : zcv T c := by
  rcases hc with q | q
  · exact Or.inl q
  · have hm := zmv_mem hT (zpk_mem _ _ _ q)
    have : ∀ (L : List (Int × Int)) (i : Int), zpk L i c.1 = some c.2 → i ≤ c.1 := by
      intro L
      induction L with
      | nil => intro i e; cases e
      | cons x L ih =>
        intro i e
        unfold zpk at e
        by_cases g : i = c.1
        · omega
        · rw [if_neg g] at e; have := ih _ e; omega
    exact Or.inr ⟨this _ _ q, hm.1, hm.2.1, hm.2.2.2.1, hm.2.2.2.2.1⟩
/-- the row after a day -/
theorem zdy_i (hX : NX T nw) (hF : FV nw) (hc : zcv T c) : (zdy T nw 0 c 0 = nw 0 + 1) ∧ (∀ i, (1 ≤ i ∧ i < 18) ∨ 18 + T 1072 5 ≤ i → zdy T nw 0 c i = (if c.1 = -1 then zfs nw else zkp (zdo T nw c.2.1 c.2.2) c.2.1 (c.2.2 % T 1074 4) (c.2.2 / T 1074 4) (ztl' T nw c.2.2)) i)
    ∧ ∀ f, 0 ≤ f → f < T 1072 5 → zdy T nw 0 c (18 + f) = (if 999 < (if 0 < nw (18 + f) - (if c.1 = -1 then 0 else zharm T (ztk T nw c.2.2) (zck T nw c.2.1 c.2.2) (zoff (T 1078 (18 + 3 * f)) (T 1078 (19 + 3 * f)) (c.2.2 % T 1074 4) (c.2.2 / T 1074 4)) (nw 0)) then nw (18 + f) - (if c.1 = -1 then 0 else zharm T (ztk T nw c.2.2) (zck T nw c.2.1 c.2.2) (zoff (T 1078 (18 + 3 * f)) (T 1078 (19 + 3 * f)) (c.2.2 % T 1074 4) (c.2.2 / T 1074 4)) (nw 0)) else 0) + T 1079 2 then 999 else (if 0 < nw (18 + f) - (if c.1 = -1 then 0 else zharm T (ztk T nw c.2.2) (zck T nw c.2.1 c.2.2) (zoff (T 1078 (18 + 3 * f)) (T 1078 (19 + 3 * f)) (c.2.2 % T 1074 4) (c.2.2 / T 1074 4)) (nw 0)) then nw (18 + f) - (if c.1 = -1 then 0 else zharm T (ztk T nw c.2.2) (zck T nw c.2.1 c.2.2) (zoff (T 1078 (18 + 3 * f)) (T 1078 (19 + 3 * f)) (c.2.2 % T 1074 4) (c.2.2 / T 1074 4)) (nw 0)) else 0) + T 1079 2) := by
  have hT := NX_T hX
  have n6 := hT.2.2.1
  have hb : ∀ f, 0 ≤ f → f < 6 → 0 ≤ nw (18 + f) := fun f a b => (hF.2.1 f a b).1
  by_cases g : c.1 = -1
  · unfold zdy
    rw [if_pos g]
    refine ⟨?_, fun i hi => ?_, fun f f0 f1 => ?_⟩
    · unfold znx zgr zfs; rw [if_pos rfl, if_neg (by omega), if_neg (by omega)]
    · rw [if_pos g]; unfold znx zgr; rw [if_neg (by omega), if_neg (by omega)]
    · have := hb f f0 (by omega)
      have ez : zfs nw (18 + f) = nw (18 + f) := by unfold zfs; rw [if_neg (by omega)]
      rw [if_pos g]; unfold znx zgr
      rw [if_neg (by omega), if_pos (by omega), ez]
      by_cases g2 : 0 < nw (18 + f) - 0
      · rw [if_pos g2, Int.sub_zero]
      · rw [if_neg g2]; have : nw (18 + f) = 0 := by omega
        rw [this]
  · rcases hc with q | hc
    · exact absurd q g
    have e24 : zdo T nw c.2.1 c.2.2 24 = nw 24 := zdo_r hX hc.2.1 hc.2.2.1 (by omega)
    have e0 : zdo T nw c.2.1 c.2.2 0 = nw 0 := zdo_r hX hc.2.1 hc.2.2.1 (by omega)
    have eh : ∀ i, (i < 18 ∨ 18 + T 1072 5 ≤ i) → zph T nw c.2.1 c.2.2 i = zdo T nw c.2.1 c.2.2 i := fun i q => by unfold zph zhf; rw [if_neg (by omega)]
    have ek : ∀ i, (i < 18 ∨ 18 + T 1072 5 ≤ i) → zkp (zph T nw c.2.1 c.2.2) c.2.1 (c.2.2 % T 1074 4) (c.2.2 / T 1074 4) (ztl' T nw c.2.2) i = zkp (zdo T nw c.2.1 c.2.2) c.2.1 (c.2.2 % T 1074 4) (c.2.2 / T 1074 4) (ztl' T nw c.2.2) i := fun i q => by
      unfold zkp
      rw [eh 24 (by omega)]
      split
      · unfold zke zsh; rw [eh i q]
        have h0 : (if 25 ≤ (0 : Int) ∧ (0 : Int) < 220 then zph T nw c.2.1 c.2.2 (0 + 5) else zph T nw c.2.1 c.2.2 0) = (if 25 ≤ (0 : Int) ∧ (0 : Int) < 220 then zdo T nw c.2.1 c.2.2 (0 + 5) else zdo T nw c.2.1 c.2.2 0) := by rw [if_neg (by omega), if_neg (by omega), eh 0 (by omega)]
        rw [h0]
        by_cases g3 : 25 ≤ i ∧ i < 220
        · rw [eh (i + 5) (by omega)]
        · rw [if_neg g3, if_neg g3]
      · unfold zke zin; rw [eh i q, eh 0 (by omega), eh 24 (by omega)]
    have el : ∀ i, i < 24 → zkp (zph T nw c.2.1 c.2.2) c.2.1 (c.2.2 % T 1074 4) (c.2.2 / T 1074 4) (ztl' T nw c.2.2) i = zph T nw c.2.1 c.2.2 i := fun i q => by
      have := hF.2.2
      unfold zkp
      split
      · unfold zke zsh; repeat rw [if_neg (by omega)]
      · unfold zke zin; rw [eh 24 (by omega), e24]; repeat rw [if_neg (by omega)]
    unfold zdy
    rw [if_neg g]
    unfold zpy
    rw [if_pos rfl]
    refine ⟨?_, fun i hi => ?_, fun f f0 f1 => ?_⟩
    · unfold znx zgr; rw [if_pos rfl, if_neg (by omega), el 0 (by omega), eh 0 (by omega), e0]
    · rw [if_neg g]; unfold znx zgr; rw [if_neg (by omega), if_neg (by omega), ek i (by omega)]
    · have hb := hb f f0 (by omega)
      rw [if_neg g]; unfold znx zgr
      rw [if_neg (by omega), if_pos (by omega), el _ (by omega)]
      have ef : zph T nw c.2.1 c.2.2 (18 + f) = (if 0 < nw (18 + f) - zharm T (ztk T nw c.2.2) (zck T nw c.2.1 c.2.2) (zoff (T 1078 (18 + 3 * f)) (T 1078 (19 + 3 * f)) (c.2.2 % T 1074 4) (c.2.2 / T 1074 4)) (nw 0) then nw (18 + f) - zharm T (ztk T nw c.2.2) (zck T nw c.2.1 c.2.2) (zoff (T 1078 (18 + 3 * f)) (T 1078 (19 + 3 * f)) (c.2.2 % T 1074 4) (c.2.2 / T 1074 4)) (nw 0) else 0) := by
        unfold zph zhf
        rw [if_pos (by omega), show 18 + f - 18 = f by omega, zdo_r hX hc.2.1 hc.2.2.1 (by omega)]
        split <;> split <;> omega
      rw [ef]
theorem l_230 {tw ck : Int} (hK : XG T h) (hH : XH T h) (hZ : isS s) (e8 : ah_m h s 8 = p) (e9 : p ≠ -1 → ah_m h s 9 = tw) (e10 : p ≠ -1 → ah_m h s 10 = ck) (e0 : ah_m h s 0 = n) (hn : 0 ≤ n ∧ n ≤ 6000) (hp : -1 ≤ p ∧ p < 25) (hck : ck = 0 ∨ ck = 1) (htw : 0 ≤ tw ∧ tw ≤ 1000) {B : Int → Int} (hB : ∀ f, 0 ≤ f → f < T 1072 5 → 0 ≤ B f ∧ B f ≤ 999) (hb : ∀ f, 0 ≤ f → f < T 1072 5 → ah_m h (s + 3) f = B f) {E : Int → Int}
    (hE : ∀ f, 0 ≤ f → f < T 1072 5 → E f = (if 999 < (if 0 < B f - (if p = -1 then 0 else zharm T tw ck (zoff (T 1078 (18 + 3 * f)) (T 1078 (19 + 3 * f)) (p % 5) (p / 5)) (n - 1)) then B f - (if p = -1 then 0 else zharm T tw ck (zoff (T 1078 (18 + 3 * f)) (T 1078 (19 + 3 * f)) (p % 5) (p / 5)) (n - 1)) else 0) + T 1079 2 then 999 else (if 0 < B f - (if p = -1 then 0 else zharm T tw ck (zoff (T 1078 (18 + 3 * f)) (T 1078 (19 + 3 * f)) (p % 5) (p / 5)) (n - 1)) then B f - (if p = -1 then 0 else zharm T tw ck (zoff (T 1078 (18 + 3 * f)) (T 1078 (19 + 3 * f)) (p % 5) (p / 5)) (n - 1)) else 0) + T 1079 2))
    {a1 : Option AV} (hQ : ∀ h', Off (fun r i => r = 14 ∨ r = s + 3) h h' → (∀ f, 0 ≤ f → f < T 1072 5 → ah_m h' (s + 3) f = E f) → Q (.inl (some (.inl z))) h') :
    ∀ (j : Nat) (f : Int) tl h', 0 ≤ f → f + j = T 1072 5 → Off (fun r i => r = 14 ∨ r = s + 3) h h' → (∀ u, 0 ≤ u → u < f → ah_m h' (s + 3) u = E u) → (∀ u, f ≤ u → ah_m h' (s + 3) u = ah_m h (s + 3) u) → wpB (d + 42) 230 131 (some (.inr (.inr s)) :: a1 :: some (.inl z) :: some (.inl f) :: tl) [] h' Q := by
  have n6 := hK.2.2.2.2.1
  have h99 := hK.2.2.2.2.2.2.2.2.2.2.1
  have ok : ∀ r i, (r = 14 ∨ r = s + 3) → ¬ fix r i ∧ ¬ BRr r ∧ ¬ (r = 1 ∧ i = 0) := fun r i w => by unfold isS at hZ; unfold fix BRr isS isV; omega
  intro j
  induction j with
  | zero =>
    intro f tl h' f0 f1 hO hu hv
    have hK' : XG T h' := XG_off hK hO ok
    have hlt : ¬ f < T 1072 5 := by omega
    simp (disch := omega) only [q_230_131, b_230_131, q_230_217, b_230_217, ↓w_iconst, ↓w_sipush, ↓w_aload_n_0, ↓w_iload_n_2, ↓w_iload_n_3, ↓w_iinc_3, ↓w_aload_4, ↓w_astore, ↓w_iadd, ↓w_isub, ↓w_getfield, ↓w_iaload, ↓w_iastore, ↓w_checkcast, ↓w_goto, ↓w_if_icmp_ge, ↓w_ireturn0, ↓w_invokevirtual_0, ↓w_invokeinterface_1, ↓w_invokestatic_2, ↓w_invokevirtual_2, stw_0, stw_i, stw_l, stw_r, ofK0, ofK1, ofK2, lst1, lst2, lkill, kont_none, kont_some, Int.reduceToNat, List.length_cons, List.length_nil, Nat.reduceAdd, Nat.reduceLeDiff, Nat.zero_le, true_and, and_true, if_true, if_false, ne_eq, Int.reduceEq, Int.reduceNeg, not_false_eq_true, not_true_eq_false, ↓reduceIte, Int.reduceLT, Int.reduceLE, and_self, or_true, true_or, or_false, false_or, false_and, and_false, ah_t_w, ah_m_w, ah_n_w, lst1_0, List.tail_cons, w32_i, zbd, lst2_0, xt_1a hK', x_0, xb_t hK', xb_3 hK', xl_8t hK', sz_t hK' hZ, sz_5 hK' hZ, sz_5a hK' hZ, sz_5b hK' hZ, sz_11 hK' hZ, c_95 hK', hlt]
    exact hQ h' hO (fun u u0 u1 => hu u u0 (by omega))
  | succ j ih =>
    intro f tl h' f0 f1 hO hu hv
    have hK' : XG T h' := XG_off hK hO ok
    have hH' : XH T h' := XH_off hH hK.2.1 hO (fun r i w => by have := ok r i w; unfold isS at hZ; exact ⟨by omega, this.2⟩)
    have hlt : f < T 1072 5 := by omega
    have hf := hK.2.2.2.2.2.2.2.2.2.1 f f0 (by omega)
    have eb : ah_m h' (s + 3) f = B f := by rw [hv f (Int.le_refl _)]; exact hb f f0 hlt
    have f3 : 0 < s + 3 := by unfold isS at hZ; omega
    have bf := hB f f0 hlt
    have xe : xel h' (ah_m h' (xb h') 8) f = xfi h' f := rfl
    have hf6 : f < 6 := by omega
    rw [q_230_131]
    simp (disch := omega) only [b_230_131, ↓w_iconst, ↓w_sipush, ↓w_aload_n_0, ↓w_iload_n_3, ↓w_iinc_3, ↓w_aload_4, ↓w_astore, ↓w_iadd, ↓w_isub, ↓w_getfield, ↓w_iaload, ↓w_iastore, ↓w_checkcast, ↓w_goto, ↓w_if_icmp_ge, ↓w_invokevirtual_0, ↓w_invokeinterface_1, ↓w_invokestatic_2, ↓w_invokevirtual_2, stw_0, stw_i, stw_l, stw_r, ofK0, ofK1, ofK2, lst1, lst2, lkill, kont_none, kont_some, Int.reduceToNat, List.length_cons, List.length_nil, Nat.reduceAdd, Nat.reduceLeDiff, Nat.zero_le, true_and, and_true, if_true, if_false, ne_eq, Int.reduceEq, Int.reduceNeg, not_false_eq_true, not_true_eq_false, ↓reduceIte, Int.reduceLT, Int.reduceLE, and_self, or_true, true_or, or_false, false_or, false_and, and_false, ah_t_w, ah_m_w, ah_n_w, lst1_0, List.tail_cons, w32_i, zbd, lst2_0, xt_1a hK', x_0, xb_t hK', xb_3 hK', xl_8t hK', sz_t hK' hZ, sz_5 hK' hZ, sz_5a hK' hZ, sz_5b hK' hZ, sz_11 hK' hZ, c_95 hK', hlt, c_40 (xl_8 hK') f0 hlt, xe, fi_t hK' f0 hlt, fi_1 hK' f0 hlt, fi_2 hK' f0 hlt, asc, Option.isSome_some, eb, f0, hf6]
    have x8 : ah_m h' s 8 = p := by rw [hO.2 _ _ (by unfold isS at hZ; omega)]; exact e8
    refine c_232 (d := d) (tw := tw) (ck := ck) (x := T 1078 (18 + 3 * f)) (y := T 1078 (19 + 3 * f)) hK' hZ hH' x8 (fun q => by rw [hO.2 _ _ (by unfold isS at hZ; omega)]; exact e9 q) (fun q => by rw [hO.2 _ _ (by unfold isS at hZ; omega)]; exact e10 q) (by rw [hO.2 _ _ (by unfold isS at hZ; omega)]; exact e0) hn hp hck (by omega) (by omega) (fun h2 hK2 hO2 => ?_)
    have hO3 : Off (fun r i => r = 14 ∨ r = s + 3) h h2 := Off_tr hO (Off_mono (fun r i w => Or.inl w) hO2)
    have hh : 0 ≤ (if p = -1 then 0 else zharm T tw ck (zoff (T 1078 (18 + 3 * f)) (T 1078 (19 + 3 * f)) (p % 5) (p / 5)) (n - 1)) ∧ (if p = -1 then 0 else zharm T tw ck (zoff (T 1078 (18 + 3 * f)) (T 1078 (19 + 3 * f)) (p % 5) (p / 5)) (n - 1)) ≤ 1000000 := by
      split
      · omega
      · exact zhr_b hK hH htw
    have hE := hE f f0 hlt
    generalize hG : (if p = -1 then 0 else zharm T tw ck (zoff (T 1078 (18 + 3 * f)) (T 1078 (19 + 3 * f)) (p % 5) (p / 5)) (n - 1)) = H at *
    have e999 : (if (if 0 < B f - H then B f - H else 0) + T 1079 2 < 999 then (if 0 < B f - H then B f - H else 0) + T 1079 2 else 999) = E f := by rw [hE]; split <;> split <;> omega
    have bm : 0 ≤ (if 0 < B f - H then B f - H else 0) ∧ (if 0 < B f - H then B f - H else 0) ≤ 999 := by split <;> omega
    simp (disch := omega) only [b_230_131, ↓w_iconst, ↓w_sipush, ↓w_aload_n_0, ↓w_iload_n_3, ↓w_iinc_3, ↓w_aload_4, ↓w_astore, ↓w_iadd, ↓w_isub, ↓w_getfield, ↓w_iaload, ↓w_iastore, ↓w_checkcast, ↓w_goto, ↓w_if_icmp_ge, ↓w_invokevirtual_0, ↓w_invokeinterface_1, ↓w_invokestatic_2, ↓w_invokevirtual_2, stw_0, stw_i, stw_l, stw_r, ofK0, ofK1, ofK2, lst1, lst2, lkill, kont_none, kont_some, Int.reduceToNat, List.length_cons, List.length_nil, Nat.reduceAdd, Nat.reduceLeDiff, Nat.zero_le, true_and, and_true, if_true, if_false, ne_eq, Int.reduceEq, Int.reduceNeg, not_false_eq_true, not_true_eq_false, ↓reduceIte, Int.reduceLT, Int.reduceLE, and_self, or_true, true_or, or_false, false_or, false_and, and_false, ah_t_w, ah_m_w, ah_n_w, lst1_0, List.tail_cons, w32_i, zbd, lst2_0, xt_1a hK2, x_0, xb_t hK2, xb_3 hK2, xl_8t hK2, sz_t hK2 hZ, sz_5 hK2 hZ, sz_5a hK2 hZ, sz_5b hK2 hZ, sz_11 hK2 hZ, c_17, c_18, e999, f3, f0, hf6, eq_true bm]
    refine ih (f + 1) _ _ (by omega) (by omega) (Off_w hO3 (Or.inr rfl)) (fun u u0 u1 => ?_) (fun u u0 => ?_)
    · rw [ah_m_w]
      by_cases g : u = f
      · rw [if_pos ⟨rfl, g⟩, g]
      · rw [if_neg (fun q => g q.2), hO2.2 _ _ (by unfold isS at hZ; omega)]; exact hu u u0 (by omega)
    · rw [ah_m_w, if_neg (by omega), hO2.2 _ _ (by unfold isS at hZ; omega)]; exact hv u (by omega)
theorem XS_8 (hS : XS T nw s h) (hO : Off (fun r i => r = s ∧ 8 ≤ i ∧ i ≤ 10) h h') (h40 : nw 24 ≤ 40) : XS T nw s h' := by
  have hm : ∀ r i, ¬ (r = s ∧ 8 ≤ i ∧ i ≤ 10) → ah_m h' r i = ah_m h r i := hO.2
  obtain ⟨a1, a2, a3, a4, a5, a6, a7⟩ := hS
  refine ⟨a1, ?_, fun m p q => ?_, fun m p q => ?_, fun m p q => ?_, fun k i p q u v => ?_, fun k p q => ?_, fun j k p q u v ne => ?_⟩
  · rw [hm _ _ (by omega), hm _ _ (by omega), hm _ _ (by omega), hm _ _ (by omega)]; exact a2
  · rw [hm _ _ (by omega)]; exact a3 m p q
  · rw [hm _ _ (by omega)]; exact a4 m p q
  · rw [hm _ _ (by omega)]; exact a5 m p q
  · have := a7.1 k p (by omega)
    rw [hm (s + 4) k (by omega), hm _ _ (by omega)]; exact a6 k i p q u v
  · rw [hm (s + 4) k (by omega)]; exact a7.1 k p q
  · rw [hm (s + 4) k (by omega), hm (s + 4) j (by omega)]; exact a7.2 j k p q u v ne
theorem XS_by (hS : XS T nw s h) (n8 : 0 ≤ T 1072 4 ∧ T 1072 4 ≤ 8) (n6 : 0 ≤ T 1072 5 ∧ T 1072 5 ≤ 6) (h40 : nw 24 ≤ 40) (hO : Off (fun r i => (r = s ∧ (i = 0 ∨ i = 1)) ∨ r = 14 ∨ r = s + 3) h h') (hz : ∀ i, (2 ≤ i ∧ i < 18) ∨ 24 ≤ i → nw' i = nw i) (e0 : ah_m h' s 0 = nw' 0) (e1 : ah_m h' s 1 = nw' 1) (eb : ∀ f, 0 ≤ f → f < T 1072 5 → ah_m h' (s + 3) f = nw' (18 + f)) : XS T nw' s h' := by
  have hZ := hS.1
  have s25 : 25 ≤ s := by unfold isS at hZ; omega
  have hzc : zcn T nw' (zn T) 0 = zcn T nw (zn T) 0 := zcn_c _ _ (fun u a b => by rw [hz _ (by unfold zn at b; omega)])
  have hm : ∀ r i, ¬ ((r = s ∧ (i = 0 ∨ i = 1)) ∨ r = 14 ∨ r = s + 3) → ah_m h' r i = ah_m h r i := hO.2
  refine ⟨hZ, ⟨e0, e1, ?_, ?_⟩, fun m p q => ?_, fun m p q => ?_, eb, fun k i p q u v => ?_, fun k p q => ?_, fun j k p q u v ne => ?_⟩
  · rw [hm _ _ (by omega), s_2 hS, hz _ (by omega)]
  · rw [hm _ _ (by omega), s_7 hS, hzc]
  · rw [hm _ _ (by omega), sp hS p q]; unfold zpl5; rw [hz _ (by omega), hz _ (by omega)]
  · rw [hm _ _ (by omega), so hS p q]; unfold zon5; rw [zat_c n8 (fun i a b => hz i (by omega))]
  · rw [hz _ (by omega)] at q
    have := hS.2.2.2.2.2.2.1 k p (by omega)
    rw [hm (s + 4) k (by omega), hm _ _ (by omega), hz _ (by omega)]; exact hS.2.2.2.2.2.1 k i p q u v
  · rw [hm (s + 4) k (by omega)]; exact hS.2.2.2.2.2.2.1 k p q
  · rw [hm (s + 4) k (by omega), hm (s + 4) j (by omega)]; exact hS.2.2.2.2.2.2.2 j k p q u v ne
theorem NX_fs (hX : NX T nw) : NX T (zfs nw) := by
  refine NX_of hX ?_
  have hN := NX_N hX
  refine ⟨fun m a b => ?_, fun m a b => ?_, fun m q a b a' b' hne => ?_, ?_⟩
  · unfold zfs; rw [if_neg (by omega), if_neg (by omega)]; exact hN.1 m a b
  · unfold zfs; rw [if_neg (by omega), if_neg (by omega)]; exact hN.2.1 m a b
  · unfold zfs; rw [if_neg (by omega), if_neg (by omega), if_neg (by omega), if_neg (by omega)]; exact hN.2.2.1 m q a b a' b' hne
  · have := hN.2.2.2; unfold zfs; rw [if_pos rfl]; omega
theorem zkp_lo (h24 : 0 ≤ nw 24) (hi : i < 24) : zkp nw m x y z i = nw i := by
  unfold zkp
  split
  · unfold zke zsh; repeat rw [if_neg (by omega)]
  · unfold zke zin; repeat rw [if_neg (by omega)]
theorem zkp_24 (h24 : 0 ≤ nw 24 ∧ nw 24 ≤ 40) : 0 ≤ zkp nw m x y z 24 ∧ zkp nw m x y z 24 ≤ 40 := by
  unfold zkp
  split
  · unfold zke zsh; repeat rw [if_neg (by omega)]
    exact h24
  · unfold zke zin
    rw [if_neg (by omega), if_neg (by omega), if_neg (by omega), if_neg (by omega), if_neg (by omega), if_pos rfl]; omega
theorem NX_dy (hX : NX T nw) (hF : FV nw) (hc : zcv T c) : NX T (zdy T nw 0 c) := by
  have hi := (zdy_i hX hF hc).2.1
  have n8 := (NX_T hX).2.1
  by_cases g : c.1 = -1
  · have h2 := NX_fs hX
    refine NX_of h2 (NV_c (NX_N h2) n8.2 (fun i a b => ?_))
    rw [hi i (by omega), if_pos g]
  · rcases hc with q | hc
    · exact absurd q g
    have h2 := NX_do hX hc.2.1 hc.2.2.1 hc.2.2.2.1 hc.2.2.2.2
    refine NX_of h2 (NV_c (NX_N h2) n8.2 (fun i a b => ?_))
    rw [hi i (by omega), if_neg g, zkp_lo (by rw [zdo_r hX hc.2.1 hc.2.2.1 (by omega)]; exact hF.2.2.1) (by omega)]
theorem FV_dy (hX : NX T nw) (hF : FV nw) (hc : zcv T c) (hd : nw 0 < 5000) : FV (zdy T nw 0 c) := by
  have hi := zdy_i hX hF hc
  have hT := NX_T hX
  have n6 := hT.2.2.1
  have h99 := hT.2.2.2.2.2.2.2.2.1
  have hlo : ∀ i, (i = 24 ∨ (18 + T 1072 5 ≤ i ∧ i < 24)) → (i = 24 → 0 ≤ zdy T nw 0 c i ∧ zdy T nw 0 c i ≤ 40) ∧ (i < 24 → zdy T nw 0 c i = nw i) := by
    intro i hh
    rw [hi.2.1 i (by omega)]
    by_cases g : c.1 = -1
    · rw [if_pos g]; unfold zfs; rw [if_neg (by omega)]
      exact ⟨fun e => by rw [e]; exact hF.2.2, fun _ => rfl⟩
    · rcases hc with q | hc
      · exact absurd q g
      rw [if_neg g]
      have e24 : zdo T nw c.2.1 c.2.2 24 = nw 24 := zdo_r hX hc.2.1 hc.2.2.1 (by omega)
      exact ⟨fun e => by rw [e]; exact zkp_24 (by rw [e24]; exact hF.2.2), fun q => by rw [zkp_lo (by rw [e24]; exact hF.2.2.1) q, zdo_r hX hc.2.1 hc.2.2.1 (by omega)]⟩
  refine ⟨by rw [hi.1]; have := hF.1; omega, fun f f0 f1 => ?_, (hlo 24 (Or.inl rfl)).1 rfl⟩
  by_cases g : f < T 1072 5
  · rw [hi.2.2 f f0 g]
    have := (hF.2.1 f f0 f1)
    generalize (if c.1 = -1 then 0 else zharm T (ztk T nw c.2.2) (zck T nw c.2.1 c.2.2) (zoff (T 1078 (18 + 3 * f)) (T 1078 (19 + 3 * f)) (c.2.2 % T 1074 4) (c.2.2 / T 1074 4)) (nw 0)) = H
    split <;> split <;> omega
  · rw [(hlo (18 + f) (Or.inr ⟨by omega, by omega⟩)).2 (by omega)]; exact hF.2.1 f f0 f1
end Y6
