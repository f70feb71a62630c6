/-! ===== M: what codes tell at a man; questions (printed by gen_96.py) ===== -/
def zkd (t : Int → Int) (n p : Int) : Int := if zhw t n p [102, 105, 114, 115, 116] = true then 0 else if zhw t n p [108, 97, 115, 116] = true then 1 else if zhw t n p [111, 102, 116, 101, 110] = true then 2 else if zhw t n p [116, 111, 116, 97, 108] = true then 3 else if zhw t n p [109, 111, 115, 116] = true then 4 else if zhw t n p [108, 101, 97, 115, 116] = true then 5 else -1
def zkl (k : Int) : Int := if k = 1 ∨ k = 4 then 4 else 5
def zpq (T : Int → Int → Int) (nw : Int → Int) (m w : Int) : Int := if w = 3 then nw 0 else if w = 4 then m else if w = 5 then nw (2 + 2 * m) else if w = 6 then nw (3 + 2 * m) else if w = 7 then zs T m else if w = 8 then zwo T m else if w = 9 then T 1075 (21 + 4 * T 1076 (16 + 2 * m)) else (zmk T nw m (zP T) 0).length
def zoq (T : Int → Int → Int) (nw : Int → Int) (m v : Int) : Int := if 0 ≤ v ∧ v < T 1072 5 then zoff (T 1078 (18 + 3 * v)) (T 1078 (19 + 3 * v)) (nw (2 + 2 * m)) (nw (3 + 2 * m)) else 0
/-- a question: a fault, or its kind and codes -/
def zqs (t : Int → Int) (n : Int) : (Int × Int) ⊕ (Int × List Int) :=
  if zkd t n (zsk t n 0) = -1 then .inl (1, zsk t n 0)
  else match (if zkd t n (zsk t n 0) < 3 then zxt t n (zF n) 0 (zsk t n 0 + zkl (zkd t n (zsk t n 0))) 0 else zex false t n (zF n) 0 (zsk t n 0 + zkl (zkd t n (zsk t n 0))) 0) with
    | .inl e => .inl e
    | .inr (k1, c) => if zB t n (zsk t n k1) = -1 then .inr (zkd t n (zsk t n 0), c) else .inl (1, zsk t n k1)
def zqf (kd v i : Int) (a : Int × Bool) : Int × Bool := (if kd = 0 then (if v = 1 ∧ a.1 = -1 then i else a.1) else if kd = 1 then (if v = 1 then i else a.1) else if kd = 2 then (if v = 1 then a.1 + 1 else a.1) else if kd = 3 then a.1 + v else if kd = 4 then (if a.2 = true ∨ a.1 < v then v else a.1) else (if a.2 = true ∨ v < a.1 then v else a.1), false)
def zqv (T : Int → Int → Int) (nw : Int → Int) (c : List Int) (i : Int) : Int := ztop (zrun (zpq T nw i) (zoq T nw i) c [])
def zqg (T : Int → Int → Int) (nw : Int → Int) (kd : Int) (c : List Int) : Nat → Int → Int × Bool → Int × Bool
  | 0, _, a => a
  | j + 1, i, a => zqg T nw kd c j (i + 1) (if nw (2 + 2 * i) = -1 then a else zqf kd (zqv T nw c i) i a)
section ASK
variable {d : Nat} {h h0 : AH} {Q : QQ} {x y z m k s l w a b c v n p r o kd : Int} {T : Int → Int → Int} {nw t : Int → Int} {cs : List Int}
set_option maxHeartbeats 4000000
theorem c_375 {i : Int} (hG : MG T nw h) (hv : -1000000 ≤ v ∧ v ≤ 1000000) (hi : 0 ≤ i ∧ i < T 1072 4) (ha : nw (2 + 2 * i) ≠ -1) : wpC (d + 3) 375 [.inr (.inr 1036), .inl 0, .inr (.inl v), .inl i] h Q ↔ Q (.inl (some (.inr (.inl (zoq T nw i v))))) h := by
  have hT := hG.2.2.2.1
  have h5 := hT.2.2.1
  have h8 := hT.2.1
  have hN := hG.2.2.2.2.1 i hi.1 (by omega)
  unfold zoq
  apply CT_iff; apply CT_of; rw [wpC_B]; refine ⟨⟨Nat.zero_lt_succ _, Nat.le_of_ble_eq_true rfl⟩, ?_⟩; simp only [lent]
  by_cases g : 0 ≤ v ∧ v < T 1072 5
  · have g' : 0 ≤ v ∧ v ≤ T 1072 5 - 1 := by omega
    have hf := hT.2.2.2.2.2.2.2.1 v g.1 (by omega)
    rw [if_pos g]
    simp (disch := omega) only [q_375_0, b_375_0, q_375_12, b_375_12, q_375_71, b_375_71, ↓w_iconst, ↓w_bipush, ↓w_lconst, ↓w_aload_n_0, ↓w_iload_n_1, ↓w_lload_n_2, ↓w_iload_4, ↓w_iadd, ↓w_isub, ↓w_imul, ↓w_i2l, ↓w_l2i, ↓w_getfield, ↓w_iaload, ↓w_goto, ↓w_ifCond_eq, ↓w_lookupswitch, ↓w_lreturn, ↓w_invokevirtual_0, ↓w_invokevirtual_1, ↓w_invokestatic_3, ↓w_invokestatic_4, stw_0, stw_i, stw_l, stw_r, ofK0, ofK1, ofK2, lst1, lst2, lkill, kont_none, kont_some, Int.reduceToNat, List.length_cons, List.length_nil, Nat.reduceAdd, Nat.reduceLeDiff, Nat.zero_le, true_and, and_true, if_true, if_false, ne_eq, Int.reduceEq, Int.reduceNeg, not_false_eq_true, not_true_eq_false, ↓reduceIte, Int.reduceLT, Int.reduceLE, and_self, or_true, true_or, or_false, false_or, false_and, and_false, ah_t_w, ah_m_w, ah_n_w, lst1_0, List.tail_cons, w32_i, zbd, lst2_0, asc, Option.getD_some, Option.getD_none, mt_1036a hG.1, mt_1078a hG.1, mt_1078b hG.1, mf_51 hG.1, g_1078 hG, c_285 hG, c_292 hG, c_299 hG, c_246, k_293, asc, Option.getD_none, g', Option.getD_some]
  · have g' : ¬ (0 ≤ v ∧ v ≤ T 1072 5 - 1) := by omega
    rw [if_neg g]
    simp (disch := omega) only [q_375_0, b_375_0, q_375_12, b_375_12, q_375_70, b_375_70, q_375_71, b_375_71, ↓w_iconst, ↓w_bipush, ↓w_lconst, ↓w_aload_n_0, ↓w_iload_n_1, ↓w_lload_n_2, ↓w_iload_4, ↓w_iadd, ↓w_isub, ↓w_imul, ↓w_i2l, ↓w_l2i, ↓w_getfield, ↓w_iaload, ↓w_nop, ↓w_goto, ↓w_ifCond_eq, ↓w_lookupswitch, ↓w_lreturn, ↓w_invokevirtual_0, ↓w_invokevirtual_1, ↓w_invokestatic_3, ↓w_invokestatic_4, stw_0, stw_i, stw_l, stw_r, ofK0, ofK1, ofK2, lst1, lst2, lkill, kont_none, kont_some, Int.reduceToNat, List.length_cons, List.length_nil, Nat.reduceAdd, Nat.reduceLeDiff, Nat.zero_le, true_and, and_true, if_true, if_false, ne_eq, Int.reduceEq, Int.reduceNeg, not_false_eq_true, not_true_eq_false, ↓reduceIte, Int.reduceLT, Int.reduceLE, and_self, or_true, true_or, or_false, false_or, false_and, and_false, ah_t_w, ah_m_w, ah_n_w, lst1_0, List.tail_cons, w32_i, zbd, lst2_0, asc, Option.getD_some, Option.getD_none, mt_1036a hG.1, mt_1078a hG.1, mt_1078b hG.1, mf_51 hG.1, g_1078 hG, c_285 hG, c_292 hG, c_299 hG, c_246, k_293, asc, Option.getD_none, if_neg g']
theorem zfit_c {st : List Int} {b : Bool} {ts : List Bool} (hf : zfit st (b :: ts)) : ∃ x st', st = x :: st' ∧ (if b = true then x = 0 ∨ x = 1 else -1000000 ≤ x ∧ x ≤ 1000000) ∧ zfit st' ts := by
  cases st with
  | nil => exact hf.elim
  | cons x st' => exact ⟨x, st', rfl, hf.1, hf.2⟩
theorem Wp_g {r i : Int} (w : Wp r i) : fre r i ∧ ¬ (1072 ≤ r ∧ r ≤ 1083) := Wp_f w
theorem l_374 {i : Int} {hz : AH} (hG : MG T nw hz) (hC : Cods hz cs) (e111 : ah_m hz 1036 111 = cs.length) (hcl : (cs.length : Int) ≤ 1600) (hi : 0 ≤ i ∧ i < T 1072 4) (ha : nw (2 + 2 * i) ≠ -1) (e89 : ah_m hz 1089 i = (zmk T nw i (zP T) 0).length) {R : Int} {bb : Bool}
    (hQ : ∀ h', MG T nw h' → Off Wp hz h' → Q (.inl (some (.inr (.inl R)))) h') :
    ∀ (j : Nat) (k : Nat) (st : List Int) ts tl h', (k : Int) + j = cs.length → (st.length : Int) + j ≤ 1600 → MG T nw h' → Off Wp hz h' → ah_m h' 1036 117 = st.length → Pil h' st → zfit st ts → ztl false (cs.drop k) ts = some [bb] → ztop (zrun (zpq T nw i) (zoq T nw i) (cs.drop k) st) = R → wpB (d + 4) 374 7 (some (.inr (.inr 1036)) :: some (.inl i) :: some (.inl k) :: tl) [] h' Q := by
  have h8 := hG.2.2.2.1.2.1
  intro j
  induction j with
  | zero =>
    intro k st ts tl h' k1 k3 hG' hO e117 hP hf ht hR
    have e111' : ah_m h' 1036 111 = cs.length := by rw [hO.2 _ _ (by unfold Wp; omega)]; exact e111
    have hlt : ¬ (k : Int) < cs.length := by omega
    have ed : cs.drop k = [] := List.drop_eq_nil_iff.2 (by omega)
    rw [ed] at ht hR
    simp only [ztl, zrun] at ht hR
    injection ht with ht
    subst ht
    match st, hf, hP, hR with
    | [v], hf, hP, hR =>
      have e0 : ah_m h' 1119 0 = v := hP.1
      have e1 : v = R := hR
      subst e1
      simp (disch := omega) only [q_374_7, b_374_7, q_374_168, b_374_168, ↓w_iconst, ↓w_sipush, ↓w_aload_n_0, ↓w_iload_n_2, ↓w_iload_n_3, ↓w_istore_n_3, ↓w_isub, ↓w_i2l, ↓w_getfield, ↓w_iaload, ↓w_laload, ↓w_goto, ↓w_if_icmp_lt, ↓w_if_icmp_ge, ↓w_lreturn, ↓w_invokevirtual_1, stw_0, stw_i, stw_l, stw_r, ofK0, ofK1, ofK2, lst1, lst2, lkill, kont_none, kont_some, Int.reduceToNat, List.length_cons, List.length_nil, Nat.reduceAdd, Nat.reduceLeDiff, Nat.zero_le, true_and, and_true, if_true, if_false, ne_eq, Int.reduceEq, Int.reduceNeg, not_false_eq_true, not_true_eq_false, ↓reduceIte, Int.reduceLT, Int.reduceLE, and_self, or_true, true_or, or_false, false_or, false_and, and_false, ah_t_w, ah_m_w, ah_n_w, lst1_0, List.tail_cons, w32_i, zbd, lst2_0, mt_1036a hG'.1, mt_1117a hG'.1, mt_1117b hG'.1, mf_110 hG'.1, mt_1119a hG'.1, mt_1119b hG'.1, mf_116 hG'.1, e111', hlt, e0]
      exact hQ _ hG' hO
  | succ j ih =>
    intro k st ts tl h' k1 k3 hG' hO e117 hP hf ht hR
    have e111' : ah_m h' 1036 111 = cs.length := by rw [hO.2 _ _ (by unfold Wp; omega)]; exact e111
    have hlt : (k : Int) < cs.length := by omega
    have hM' := hG'.1
    have hl' : k < cs.length := by omega
    have ed : cs.drop k = cs.getD k 0 :: cs.drop (k + 1) := by
      rw [List.getD_eq_getElem?_getD, List.getElem?_eq_getElem hl', Option.getD_some, List.drop_eq_getElem_cons hl']
    have ec : ah_m h' 1117 k = cs.getD k 0 := by
      rw [hO.2 _ _ (by unfold Wp; omega), hC k (by omega) hlt]; unfold zlf; simp
    rw [ed] at ht hR
    generalize cs.getD k 0 = c at ec ht hR
    simp only [ztl] at ht
    simp only [zrun] at hR
    cases et : zty false c ts with
    | none => rw [et] at ht; cases ht
    | some ts' =>
      rw [et] at ht
      simp only at ht
      have hf' : zfit (zst (zpq T nw i) (zoq T nw i) c st) ts' := zst_fit hf et
      have push : ∀ v, zst (zpq T nw i) (zoq T nw i) c st = v :: st → wpB (d + 4) 374 162 (some (.inr (.inr 1036)) :: some (.inl i) :: some (.inl k) :: some (.inl c) :: tl.tail) [] (ah_w (ah_w h' 1119 st.length v) 1036 117 (st.length + 1)) Q := by
        intro v ev
        rw [ev] at hf' hR
        simp (disch := omega) only [q_374_162, b_374_162, ↓w_iinc_2, ↓w_goto, stw_0, stw_i, stw_l, stw_r, ofK0, ofK1, ofK2, lst1, lst2, lkill, kont_none, kont_some, Int.reduceToNat, List.length_cons, List.length_nil, Nat.reduceAdd, Nat.reduceLeDiff, Nat.zero_le, true_and, and_true, if_true, if_false, ne_eq, Int.reduceEq, Int.reduceNeg, not_false_eq_true, not_true_eq_false, ↓reduceIte, Int.reduceLT, Int.reduceLE, and_self, or_true, true_or, or_false, false_or, false_and, and_false, ah_t_w, ah_m_w, ah_n_w, lst1_0, List.tail_cons, w32_i, zbd, lst2_0]
        refine ih (k + 1) (v :: st) ts' _ _ (by omega) (by simp only [List.length_cons]; omega) (MG_w (MG_w hG' (by unfold fre; omega)) (by unfold fre; omega)) (Off_w (Off_w hO (by unfold Wp; omega)) (by unfold Wp; omega)) ?_ ⟨?_, ?_⟩ hf' ht hR
        · rw [ah_m_w, if_pos ⟨rfl, rfl⟩]; simp
        · rw [ah_m_w, if_neg (by omega), ah_m_w, if_pos ⟨rfl, rfl⟩]
        · exact Pil_w (Pil_w hP (by omega)) (by omega)
      -- the top is changed
      have top : ∀ v x st', st = x :: st' → zst (zpq T nw i) (zoq T nw i) c st = v :: st' → wpB (d + 4) 374 162 (some (.inr (.inr 1036)) :: some (.inl i) :: some (.inl k) :: some (.inl c) :: tl.tail) [] (ah_w h' 1119 st'.length v) Q := by
        intro v x st' es ev
        rw [ev] at hf' hR
        subst es
        simp only [List.length_cons] at k3 e117
        simp (disch := omega) only [q_374_162, b_374_162, ↓w_iinc_2, ↓w_goto, stw_0, stw_i, stw_l, stw_r, ofK0, ofK1, ofK2, lst1, lst2, lkill, kont_none, kont_some, Int.reduceToNat, List.length_cons, List.length_nil, Nat.reduceAdd, Nat.reduceLeDiff, Nat.zero_le, true_and, and_true, if_true, if_false, ne_eq, Int.reduceEq, Int.reduceNeg, not_false_eq_true, not_true_eq_false, ↓reduceIte, Int.reduceLT, Int.reduceLE, and_self, or_true, true_or, or_false, false_or, false_and, and_false, ah_t_w, ah_m_w, ah_n_w, lst1_0, List.tail_cons, w32_i, zbd, lst2_0]
        refine ih (k + 1) (v :: st') ts' _ _ (by omega) (by simp only [List.length_cons]; omega) (MG_w hG' (by unfold fre; omega)) (Off_w hO (by unfold Wp; omega)) ?_ ⟨?_, ?_⟩ hf' ht hR
        · rw [ah_m_w, if_neg (by omega), e117]; simp
        · rw [ah_m_w, if_pos ⟨rfl, rfl⟩]
        · exact Pil_w hP.2 (by omega)
      rw [q_374_7]
      unfold zty at et
      by_cases g1 : 1000 ≤ c
      · rw [if_pos g1] at et
        have g1' : ¬ c < 1000 := by omega
        have g1'' : c ≤ 10999 := by
          by_cases q : c ≤ 10999
          · exact q
          · rw [if_neg q] at et; cases et
        simp (disch := omega) only [b_374_7, ↓w_sipush, ↓w_aload_n_0, ↓w_iload_n_2, ↓w_iload_n_3, ↓w_istore_n_3, ↓w_isub, ↓w_i2l, ↓w_getfield, ↓w_iaload, ↓w_goto, ↓w_if_icmp_lt, ↓w_if_icmp_ge, ↓w_invokevirtual_1, stw_0, stw_i, stw_l, stw_r, ofK0, ofK1, ofK2, lst1, lst2, lkill, kont_none, kont_some, Int.reduceToNat, List.length_cons, List.length_nil, Nat.reduceAdd, Nat.reduceLeDiff, Nat.zero_le, true_and, and_true, if_true, if_false, ne_eq, Int.reduceEq, Int.reduceNeg, not_false_eq_true, not_true_eq_false, ↓reduceIte, Int.reduceLT, Int.reduceLE, and_self, or_true, true_or, or_false, false_or, false_and, and_false, ah_t_w, ah_m_w, ah_n_w, lst1_0, List.tail_cons, w32_i, zbd, lst2_0, mt_1036a hG'.1, mt_1117a hG'.1, mt_1117b hG'.1, mf_110 hG'.1, e111', hlt, ec, g1', c_335 hM' e117]
        refine push _ ?_
        unfold zst; rw [if_pos g1]
      · rw [if_neg g1] at et
        have g1' : c < 1000 := by omega
        by_cases g2 : 60 ≤ c
        · rw [if_pos g2] at et
          have g2' : ¬ c < 60 := by omega
          by_cases g60 : c = 60
          · rw [if_pos ⟨g60, rfl⟩] at et
            cases ts with
            | nil => simp at et
            | cons b0 ts =>
              cases b0 with
              | true => simp at et
              | false =>
              obtain ⟨x, st', es, hx, _⟩ := zfit_c hf
              subst es
              rw [if_neg (by decide)] at hx
              have e117' : ah_m h' 1036 117 = (st'.length : Int) + 1 := by rw [e117]; simp
              have e3 : (st'.length : Int) + 1 - 1 = st'.length := by omega
              have ex : ah_m h' 1119 st'.length = x := hP.1
              simp only [List.length_cons] at k3
              subst g60
              simp (disch := omega) only [b_374_7, q_374_42, b_374_42, ↓w_iconst, ↓w_bipush, ↓w_sipush, ↓w_aload_n_0, ↓w_iload_n_1, ↓w_iload_n_2, ↓w_iload_n_3, ↓w_istore_n_3, ↓w_isub, ↓w_i2l, ↓w_getfield, ↓w_iaload, ↓w_laload, ↓w_lastore, ↓w_goto, ↓w_if_icmp_lt, ↓w_if_icmp_ge, ↓w_invokestatic_1, ↓w_invokevirtual_1, ↓w_invokevirtual_3, stw_0, stw_i, stw_l, stw_r, ofK0, ofK1, ofK2, lst1, lst2, lkill, kont_none, kont_some, Int.reduceToNat, List.length_cons, List.length_nil, Nat.reduceAdd, Nat.reduceLeDiff, Nat.zero_le, true_and, and_true, if_true, if_false, ne_eq, Int.reduceEq, Int.reduceNeg, not_false_eq_true, not_true_eq_false, ↓reduceIte, Int.reduceLT, Int.reduceLE, and_self, or_true, true_or, or_false, false_or, false_and, and_false, ah_t_w, ah_m_w, ah_n_w, lst1_0, List.tail_cons, w32_i, zbd, lst2_0, mt_1036a hG'.1, mt_1117a hG'.1, mt_1117b hG'.1, mf_110 hG'.1, mt_1119a hG'.1, mt_1119b hG'.1, mf_116 hG'.1, e111', hlt, ec, e117', e3, ex, Int.reduceSub, c_375 hG' hx hi ha, c_338]
              refine top _ x st' rfl ?_
              unfold zst; rw [if_neg (by decide), if_pos (by decide)]
          · rw [if_neg (fun q => g60 q.1)] at et; cases et
        · rw [if_neg g2] at et
          have g2' : c < 60 := by omega
          by_cases g3 : 40 ≤ c
          · rw [if_pos g3] at et
            have g3' : ¬ c < 40 := by omega
            have g4 : 43 ≤ c ∧ c ≤ 50 := by
              by_cases q : 43 ≤ c ∧ c ≤ 50
              · exact q
              · rw [if_neg (by simp; omega)] at et; cases et
            have e89' : ah_m h' 1089 i = (zmk T nw i (zP T) 0).length := by rw [hO.2 _ _ (by unfold Wp; omega)]; exact e89
            have hz : zpt h' T nw i (c - 40) = zpq T nw i (c - 40) := by
              have : c = 43 ∨ c = 44 ∨ c = 45 ∨ c = 46 ∨ c = 47 ∨ c = 48 ∨ c = 49 ∨ c = 50 := by omega
              rcases this with g | g | g | g | g | g | g | g <;> subst g <;> simp [zpt, zpq, e89']
            have c36 : ∀ {Q}, wpC (d + 4) 336 [.inr (.inr 1036), .inl (c - 40), .inl i] h' Q ↔ Q (.inl (some (.inr (.inl (zpq T nw i (c - 40)))))) h' := by
              intro Q; rw [c_336 hG' hi.1 (by omega) (by omega), hz]
            simp (disch := omega) only [b_374_7, q_374_42, b_374_42, q_374_85, b_374_85, ↓w_iconst, ↓w_bipush, ↓w_sipush, ↓w_aload_n_0, ↓w_iload_n_1, ↓w_iload_n_2, ↓w_iload_n_3, ↓w_istore_n_3, ↓w_isub, ↓w_i2l, ↓w_getfield, ↓w_iaload, ↓w_laload, ↓w_lastore, ↓w_goto, ↓w_if_icmp_lt, ↓w_if_icmp_ge, ↓w_invokestatic_1, ↓w_invokevirtual_1, ↓w_invokevirtual_2, ↓w_invokevirtual_3, stw_0, stw_i, stw_l, stw_r, ofK0, ofK1, ofK2, lst1, lst2, lkill, kont_none, kont_some, Int.reduceToNat, List.length_cons, List.length_nil, Nat.reduceAdd, Nat.reduceLeDiff, Nat.zero_le, true_and, and_true, if_true, if_false, ne_eq, Int.reduceEq, Int.reduceNeg, not_false_eq_true, not_true_eq_false, ↓reduceIte, Int.reduceLT, Int.reduceLE, and_self, or_true, true_or, or_false, false_or, false_and, and_false, ah_t_w, ah_m_w, ah_n_w, lst1_0, List.tail_cons, w32_i, zbd, lst2_0, mt_1036a hG'.1, mt_1117a hG'.1, mt_1117b hG'.1, mf_110 hG'.1, mt_1119a hG'.1, mt_1119b hG'.1, mf_116 hG'.1, e111', hlt, ec, g1', g2', g3', c36, c_338, c_335 hM' e117]
            refine push _ ?_
            unfold zst; rw [if_neg g1, if_neg g2, if_pos g3]
          · rw [if_neg g3, if_neg (fun q => by cases q.1)] at et
            have g3' : c < 40 := by omega
            by_cases g13 : c = 13
            · subst g13
              simp (disch := omega) only [b_374_7, q_374_42, b_374_42, q_374_85, b_374_85, q_374_110, b_374_110, ↓w_iconst, ↓w_bipush, ↓w_sipush, ↓w_lconst, ↓w_aload_n_0, ↓w_iload_n_1, ↓w_iload_n_2, ↓w_iload_n_3, ↓w_istore_n_3, ↓w_isub, ↓w_i2l, ↓w_getfield, ↓w_iaload, ↓w_laload, ↓w_lastore, ↓w_goto, ↓w_if_icmp_ne, ↓w_if_icmp_lt, ↓w_if_icmp_ge, ↓w_invokestatic_1, ↓w_invokevirtual_1, ↓w_invokevirtual_2, ↓w_invokevirtual_3, stw_0, stw_i, stw_l, stw_r, ofK0, ofK1, ofK2, lst1, lst2, lkill, kont_none, kont_some, Int.reduceToNat, List.length_cons, List.length_nil, Nat.reduceAdd, Nat.reduceLeDiff, Nat.zero_le, true_and, and_true, if_true, if_false, ne_eq, Int.reduceEq, Int.reduceNeg, not_false_eq_true, not_true_eq_false, ↓reduceIte, Int.reduceLT, Int.reduceLE, and_self, or_true, true_or, or_false, false_or, false_and, and_false, ah_t_w, ah_m_w, ah_n_w, lst1_0, List.tail_cons, w32_i, zbd, lst2_0, mt_1036a hG'.1, mt_1117a hG'.1, mt_1117b hG'.1, mf_110 hG'.1, mt_1119a hG'.1, mt_1119b hG'.1, mf_116 hG'.1, e111', hlt, ec, c_335 hM' e117]
              refine push _ ?_
              unfold zst; rw [if_neg (by decide), if_neg (by decide), if_neg (by decide), if_pos rfl]
            · rw [if_neg g13] at et
              by_cases g12 : c = 12
              · rw [if_pos g12] at et
                cases ts with
                | nil => simp at et
                | cons b0 ts =>
                  cases b0 with
                  | false => simp at et
                  | true =>
                  obtain ⟨x, st', es, hx, _⟩ := zfit_c hf
                  subst es
                  rw [if_pos rfl] at hx
                  have e117' : ah_m h' 1036 117 = (st'.length : Int) + 1 := by rw [e117]; simp
                  have e3 : (st'.length : Int) + 1 - 1 = st'.length := by omega
                  have ex : ah_m h' 1119 st'.length = x := hP.1
                  have e64 : w64 (1 - x) = 1 - x := w64_i (by omega) (by omega)
                  simp only [List.length_cons] at k3
                  subst g12
                  simp (disch := omega) only [b_374_7, q_374_42, b_374_42, q_374_85, b_374_85, q_374_110, b_374_110, q_374_124, b_374_124, ↓w_iconst, ↓w_bipush, ↓w_sipush, ↓w_lconst, ↓w_aload_n_0, ↓w_iload_n_1, ↓w_iload_n_2, ↓w_iload_n_3, ↓w_istore_n_3, ↓w_isub, ↓w_lsub, ↓w_i2l, ↓w_getfield, ↓w_iaload, ↓w_laload, ↓w_lastore, ↓w_goto, ↓w_if_icmp_ne, ↓w_if_icmp_lt, ↓w_if_icmp_ge, ↓w_invokestatic_1, ↓w_invokevirtual_1, ↓w_invokevirtual_2, ↓w_invokevirtual_3, stw_0, stw_i, stw_l, stw_r, ofK0, ofK1, ofK2, lst1, lst2, lkill, kont_none, kont_some, Int.reduceToNat, List.length_cons, List.length_nil, Nat.reduceAdd, Nat.reduceLeDiff, Nat.zero_le, true_and, and_true, if_true, if_false, ne_eq, Int.reduceEq, Int.reduceNeg, not_false_eq_true, not_true_eq_false, ↓reduceIte, Int.reduceLT, Int.reduceLE, and_self, or_true, true_or, or_false, false_or, false_and, and_false, ah_t_w, ah_m_w, ah_n_w, lst1_0, List.tail_cons, w32_i, zbd, lst2_0, mt_1036a hG'.1, mt_1117a hG'.1, mt_1117b hG'.1, mf_110 hG'.1, mt_1119a hG'.1, mt_1119b hG'.1, mf_116 hG'.1, e111', hlt, ec, e117', e3, ex, e64]
                  refine top _ x st' rfl ?_
                  unfold zst; rw [if_neg (by decide), if_neg (by decide), if_neg (by decide), if_neg (by decide), if_pos rfl]
              · rw [if_neg g12] at et
                -- two of the pile are joined
                have join : ∀ x y st' , st = y :: x :: st' → (-1000000 ≤ x ∧ x ≤ 1000000) → (-1000000 ≤ y ∧ y ≤ 1000000) → 1 ≤ c ∧ c ≤ 11 → wpL (d + 4) 374 b_374_7 (some (.inr (.inr 1036)) :: some (.inl i) :: some (.inl k) :: tl) [] h' Q := by
                  intro x y st' es hx hy hc
                  subst es
                  simp only [List.length_cons] at k3
                  have e117' : ah_m h' 1036 117 = (st'.length : Int) + 2 := by rw [e117]; simp; omega
                  have eb : ah_m h' 1119 ((st'.length : Int) + 2 - 1) = y := by
                    have := hP.1
                    simp at this
                    have q : (st'.length : Int) + 2 - 1 = (st'.length : Int) + 1 := by omega
                    rw [q]; exact this
                  have ea : ah_m h' 1119 ((st'.length : Int) + 2 - 2) = x := by
                    have q : (st'.length : Int) + 2 - 2 = (st'.length : Int) := by omega
                    rw [q]; exact hP.2.1
                  simp (disch := omega) only [b_374_7, q_374_42, b_374_42, q_374_85, b_374_85, q_374_110, b_374_110, q_374_124, b_374_124, q_374_157, b_374_157, ↓w_iconst, ↓w_bipush, ↓w_sipush, ↓w_lconst, ↓w_aload_n_0, ↓w_iload_n_1, ↓w_iload_n_2, ↓w_iload_n_3, ↓w_istore_n_3, ↓w_isub, ↓w_lsub, ↓w_i2l, ↓w_getfield, ↓w_iaload, ↓w_laload, ↓w_lastore, ↓w_nop, ↓w_goto, ↓w_if_icmp_ne, ↓w_if_icmp_lt, ↓w_if_icmp_ge, ↓w_invokestatic_1, ↓w_invokevirtual_1, ↓w_invokevirtual_2, ↓w_invokevirtual_3, stw_0, stw_i, stw_l, stw_r, ofK0, ofK1, ofK2, lst1, lst2, lkill, kont_none, kont_some, Int.reduceToNat, List.length_cons, List.length_nil, Nat.reduceAdd, Nat.reduceLeDiff, Nat.zero_le, true_and, and_true, if_true, if_false, ne_eq, Int.reduceEq, Int.reduceNeg, not_false_eq_true, not_true_eq_false, ↓reduceIte, Int.reduceLT, Int.reduceLE, and_self, or_true, true_or, or_false, false_or, false_and, and_false, ah_t_w, ah_m_w, ah_n_w, lst1_0, List.tail_cons, w32_i, zbd, lst2_0, mt_1036a hG'.1, mt_1117a hG'.1, mt_1117b hG'.1, mf_110 hG'.1, mt_1119a hG'.1, mt_1119b hG'.1, mf_116 hG'.1, e111', hlt, ec, g1', g2', g3', g13, g12, c_337 (c := c) hM' e117' (by omega) (by omega) eb ea hx hy hc]
                  simp (disch := omega) only [q_374_162, b_374_162, ↓w_iinc_2, ↓w_goto, stw_0, stw_i, stw_l, stw_r, ofK0, ofK1, ofK2, lst1, lst2, lkill, kont_none, kont_some, Int.reduceToNat, List.length_cons, List.length_nil, Nat.reduceAdd, Nat.reduceLeDiff, Nat.zero_le, true_and, and_true, if_true, if_false, ne_eq, Int.reduceEq, Int.reduceNeg, not_false_eq_true, not_true_eq_false, ↓reduceIte, Int.reduceLT, Int.reduceLE, and_self, or_true, true_or, or_false, false_or, false_and, and_false, ah_t_w, ah_m_w, ah_n_w, lst1_0, List.tail_cons, w32_i, zbd, lst2_0]
                  have ez : zst (zpq T nw i) (zoq T nw i) c (y :: x :: st') = zjo c x y :: st' := by
                    unfold zst; rw [if_neg g1, if_neg g2, if_neg g3, if_neg g13, if_neg g12]
                  rw [ez] at hf' hR
                  refine ih (k + 1) (zjo c x y :: st') ts' _ _ (by omega) (by simp only [List.length_cons]; omega) (MG_w (MG_w (MG_w hG' (by unfold fre; omega)) (by unfold fre; omega)) (by unfold fre; omega)) (Off_w (Off_w (Off_w hO (by unfold Wp; omega)) (by unfold Wp; omega)) (by unfold Wp; omega)) ?_ ⟨?_, ?_⟩ hf' ht hR
                  · rw [ah_m_w, if_pos ⟨rfl, rfl⟩]; simp; omega
                  · rw [ah_m_w, if_neg (by omega), ah_m_w, if_pos ⟨rfl, by omega⟩]
                  · exact Pil_w (Pil_w (Pil_w hP.2.2 (by omega)) (by omega)) (by omega)
                by_cases g6 : 1 ≤ c ∧ c ≤ 6
                · rw [if_pos g6] at et
                  cases ts with
                  | nil => simp at et
                  | cons b0 ts =>
                    cases b0 with
                    | true => simp at et
                    | false =>
                    cases ts with
                    | nil => simp at et
                    | cons b1 ts =>
                      cases b1 with
                      | true => simp at et
                      | false =>
                      obtain ⟨y, st1, es1, hy, hf1⟩ := zfit_c hf
                      obtain ⟨x, st2, es2, hx, _⟩ := zfit_c hf1
                      rw [if_neg (by decide)] at hx hy
                      exact join x y st2 (by rw [es1, es2]) (by omega) (by omega) (by omega)
                · rw [if_neg g6] at et
                  by_cases g7 : 7 ≤ c ∧ c ≤ 9
                  · rw [if_pos g7] at et
                    cases ts with
                    | nil => simp at et
                    | cons b0 ts =>
                      cases b0 with
                      | true => simp at et
                      | false =>
                      cases ts with
                      | nil => simp at et
                      | cons b1 ts =>
                        cases b1 with
                        | true => simp at et
                        | false =>
                        obtain ⟨y, st1, es1, hy, hf1⟩ := zfit_c hf
                        obtain ⟨x, st2, es2, hx, _⟩ := zfit_c hf1
                        rw [if_neg (by decide)] at hx hy
                        exact join x y st2 (by rw [es1, es2]) (by omega) (by omega) (by omega)
                  · rw [if_neg g7] at et
                    by_cases g10 : 10 ≤ c ∧ c ≤ 11
                    · rw [if_pos g10] at et
                      cases ts with
                      | nil => simp at et
                      | cons b0 ts =>
                        cases b0 with
                        | false => simp at et
                        | true =>
                        cases ts with
                        | nil => simp at et
                        | cons b1 ts =>
                          cases b1 with
                          | false => simp at et
                          | true =>
                          obtain ⟨y, st1, es1, hy, hf1⟩ := zfit_c hf
                          obtain ⟨x, st2, es2, hx, _⟩ := zfit_c hf1
                          rw [if_pos rfl] at hx hy
                          exact join x y st2 (by rw [es1, es2]) (by omega) (by omega) (by omega)
                    · rw [if_neg g10] at et; cases et
theorem c_374 {i : Int} {bb : Bool} (hG : MG T nw h) (hC : Cods h cs) (e111 : ah_m h 1036 111 = cs.length) (hcl : (cs.length : Int) ≤ 1600) (hi : 0 ≤ i ∧ i < T 1072 4) (ha : nw (2 + 2 * i) ≠ -1) (e89 : ah_m h 1089 i = (zmk T nw i (zP T) 0).length) (ht : ztl false cs [] = some [bb]) (hQ : ∀ h', MG T nw h' → Off Wp h h' → Q (.inl (some (.inr (.inl (zqv T nw cs i))))) h') : wpC (d + 5) 374 [.inr (.inr 1036), .inl i] h Q := by
  rw [wpC_B]; refine ⟨⟨Nat.zero_lt_succ _, Nat.le_of_ble_eq_true rfl⟩, ?_⟩; simp only [lent]
  simp (disch := omega) only [q_374_0, b_374_0, ↓w_iconst, ↓w_aload_n_0, ↓w_istore_n_2, ↓w_putfield_0, ↓w_nop, stw_0, stw_i, stw_l, stw_r, ofK0, ofK1, ofK2, lst1, lst2, lkill, kont_none, kont_some, Int.reduceToNat, List.length_cons, List.length_nil, Nat.reduceAdd, Nat.reduceLeDiff, Nat.zero_le, true_and, and_true, if_true, if_false, ne_eq, Int.reduceEq, Int.reduceNeg, not_false_eq_true, not_true_eq_false, ↓reduceIte, Int.reduceLT, Int.reduceLE, and_self, or_true, true_or, or_false, false_or, false_and, and_false, ah_t_w, ah_m_w, ah_n_w, lst1_0, List.tail_cons, w32_i, zbd, lst2_0, mt_1036a hG.1]
  have hG1 : MG T nw (ah_w h 1036 117 0) := MG_f hG (by omega)
  have hO1 : Off Wp h (ah_w h 1036 117 0) := Off_w Off_rfl (by unfold Wp; omega)
  refine l_374 (hz := ah_w h 1036 117 0) hG1 (Cods_w hC (by omega)) ?_ hcl hi ha ?_ (R := zqv T nw cs i) (bb := bb) (fun h' a b => hQ h' a (Off_tr hO1 b)) cs.length 0 [] [] _ _ (by omega) (by simp; omega) hG1 Off_rfl rfl trivial trivial ht rfl
  · rw [ah_m_w, if_neg (by omega)]; exact e111
  · rw [ah_m_w, if_neg (by omega)]; exact e89

end ASK
