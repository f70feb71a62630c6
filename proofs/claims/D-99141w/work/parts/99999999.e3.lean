/-! ===== tests joined ===== -/
def zjr (op : Int) : List (List Int) → List Int
  | [] => []
  | c :: L => c ++ (op :: zjr op L)
def zjc (op : Int) : List (List Int) → List Int
  | [] => []
  | c :: L => c ++ zjr op L
def zjop (m : Int) : Int := if m = 1 then 10 else 11
def TSq (D : Nat) (a : Int) (X : Int → Prop) (h : AH) (v : Int) (cs : List Int) : Prop := ∃ i j, TSi D i j h v cs ∧ a ≤ i ∧ ∀ r, X r → r < i ∨ j ≤ r
def fcX (h : AH) (p el : Int) (r : Int) : Prop := r = p ∨ r = ah_m h p 0 ∨ r = el
def FCT (D : Nat) (a : Int) (h : AH) (p m : Int) (its : List (List Int)) (cap el : Int) : Prop :=
  (ah_t h p = (21, 0) ∧ a ≤ p ∧ 1121 ≤ a ∧ ah_m h p 1 = m ∧ (m = 0 ∨ m = 1)) ∧ LST h (ah_m h p 0) its.length cap el ∧ (a ≤ ah_m h p 0 ∧ a ≤ el) ∧ (2 ≤ cap ∧ cap ≤ 2 * its.length + 2) ∧ ∀ i : Nat, i < its.length → TSq D a (fcX h p el) h (ah_m h el i) (its.getD i [])
section E3
variable {W' : Int → Int → Prop} {d : Nat} {h h' h1 h2 h0 : AH} {Q : QQ} {x y z k s a b c v n p q r o i N lo hi A B E F cap el sp dp capL elL capS elS l' m op : Int} {S T T' : Int → Int → Int} {t nw nw' pt of tp : Int → Int} {tl : ALoc} {w W V l cs c1 c2 : List Int} {hm : Bool} {D f u : Nat} {its : List (List Int)}
set_option maxHeartbeats 4000000
theorem zjr_app : ∀ (L M : List (List Int)), zjr op (L ++ M) = zjr op L ++ zjr op M := by
  intro L M
  induction L with
  | nil => rfl
  | cons g L ih => simp [zjr, ih]
theorem zjc_app (hne : its ≠ []) : zjc op (its ++ [cs]) = zjc op its ++ (cs ++ [op]) := by
  cases its with
  | nil => exact absurd rfl hne
  | cons g L => simp [zjc, zjr_app, zjr]
theorem zrun_zjr {st : List Int} {L : List (List Int)} (hT : TyT cs) (ho : op = 10 ∨ op = 11) : zrun pt of (zjr op (cs :: L)) (v :: st) = zrun pt of (zjr op L) (zjo op v (ztop (zrun pt of cs [])) :: st) := by
  simp only [zjr]
  rw [zrun_app, zrun_topT hT]
  simp only [zrun]
  congr 1
  unfold zst
  rw [if_neg (by omega), if_neg (by omega), if_neg (by omega), if_neg (by omega), if_neg (by omega)]
theorem zjo_n (hm01 : m = 0 ∨ m = 1) (hx : x = 0 ∨ x = 1) : zjo (zjop m) m x = x ∧ zjo (zjop m) (1 - m) x = 1 - m := by
  rcases hm01 with e | e <;> rcases hx with e2 | e2 <;> subst e <;> subst e2 <;> decide
theorem zjop_2 : zjop m = 10 ∨ zjop m = 11 := by unfold zjop; split; exact Or.inl rfl; exact Or.inr rfl
theorem zjr_abs (hm01 : m = 0 ∨ m = 1) : ∀ (L : List (List Int)), (∀ g ∈ L, TyT g) → ztop (zrun pt of (zjr (zjop m) L) [1 - m]) = 1 - m := by
  intro L
  induction L with
  | nil => intro _; rfl
  | cons g L ih =>
    intro hg
    rw [zrun_zjr (hg g List.mem_cons_self) zjop_2, (zjo_n hm01 (ztop_01 (hg g List.mem_cons_self))).2]
    exact ih (fun u hu => hg u (List.mem_cons_of_mem _ hu))
theorem ztl_zjr {ts : List Bool} : ∀ (L : List (List Int)), (∀ g ∈ L, TyT g) → (op = 10 ∨ op = 11) → ztl false (zjr op L) (true :: ts) = some (true :: ts) := by
  intro L
  induction L with
  | nil => intro _ _; rfl
  | cons g L ih =>
    intro hg ho
    simp only [zjr]
    rw [ztl_app, hg g List.mem_cons_self (true :: ts)]
    simp only [ztl]
    have : zty false op (true :: true :: ts) = some (true :: ts) := by rcases ho with e | e <;> subst e <;> rfl
    rw [this]
    exact ih (fun u hu => hg u (List.mem_cons_of_mem _ hu)) ho
theorem fcX_lt (hF : FRE h) (hC : FCT D a h p m its cap el) (hx : fcX h p el r) : a ≤ r ∧ r < ah_n h := by
  obtain ⟨⟨c1, c2, c3, _, _⟩, c4, c6, c7, c9⟩ := hC
  have n1 : p < ah_n h := FRE_lt hF (by rw [c1]; decide)
  have n2 : ah_m h p 0 < ah_n h := FRE_lt hF (by rw [c4.1.1]; decide)
  have n3 : el < ah_n h := FRE_lt hF (by rw [c4.2.1]; exact (by decide : (-10 : Int) ≠ 0))
  unfold fcX at hx
  rcases hx with e | e | e <;> subst e
  · exact ⟨c2, n1⟩
  · exact ⟨c6.1, n2⟩
  · exact ⟨c6.2, n3⟩
theorem TSq_ext {X X' : Int → Prop} (hv : TSq D a X h v cs) (hE : Ext W' h h') (hW : ∀ r i, W' r i → X r) (hX : ∀ r, X' r → X r ∨ ah_n h ≤ r) : TSq D a X' h' v cs := by
  obtain ⟨i, j, h1, h2, h3⟩ := hv
  have hb := h1.1
  refine ⟨i, j, TSi_ext h1 (fun r r0 r1 => ⟨hE.2.1 r (Or.inl (by omega)), fun k => hE.2.2 r k (by omega) (fun w => by have := h3 r (hW r k w); omega)⟩) hE.1.1, h2, fun r x => ?_⟩
  rcases hX r x with q | q
  · exact h3 r q
  · exact Or.inr (by omega)
theorem FCT_ext (hC : FCT D a h p m its cap el) (hF : FRE h) (hE : Ext W' h h') (hW : ∀ r i, W' r i → r < a) : FCT D a h' p m its cap el := by
  have hC' := hC
  obtain ⟨⟨c1, c2, c3, c31, c32⟩, c4, c6, c7, c9⟩ := hC
  have pN : p < ah_n h := FRE_lt hF (by rw [c1]; decide)
  have w0 : ∀ r i, a ≤ r → ¬ W' r i := fun r i q w => by have := hW r i w; omega
  have m0 : ah_m h' p 0 = ah_m h p 0 := hE.2.2 _ _ pN (w0 _ _ c2)
  have m1 : ah_m h' p 1 = ah_m h p 1 := hE.2.2 _ _ pN (w0 _ _ c2)
  have elN : el < ah_n h := FRE_lt hF (by rw [c4.2.1]; exact (by decide : (-10 : Int) ≠ 0))
  refine ⟨⟨by rw [hE.2.1 _ (Or.inl pN)]; exact c1, c2, c3, by rw [m1]; exact c31, c32⟩, by rw [m0]; exact LST_ext c4 hF hE (fun i => ⟨w0 _ _ c6.1, w0 _ _ c6.2⟩), by rw [m0]; exact c6, c7, fun i q => ?_⟩
  rw [hE.2.2 _ _ elN (w0 _ _ c6.2)]
  obtain ⟨i1, j1, v1, v2, v3⟩ := c9 i q
  have vb := v1.1
  refine ⟨i1, j1, TSi_ext v1 (fun r r0 r1 => ⟨hE.2.1 r (Or.inl (by omega)), fun k => hE.2.2 r k (by omega) (w0 _ _ (by omega))⟩) hE.1.1, v2, fun r x => v3 r ?_⟩
  unfold fcX at x ⊢
  rw [m0] at x
  exact x
theorem FCT_it (hF : FRE h) (hC : FCT D a h p m its cap el) (hE : Ext Wrd h h') (hv : TSi D (ah_n h) (ah_n h') h' v cs) : FCT D a h' p m its cap el ∧ TSq D a (fcX h' p el) h' v cs := by
  have c3 := hC.1.2.2.1
  have n1 : p < ah_n h := FRE_lt hF (by rw [hC.1.1]; decide)
  have e : ∀ i, ah_m h' p i = ah_m h p i := fun i => hE.2.2 _ _ n1 (fun w => by have := Wrd_lt _ _ w; have := hC.1.2.1; omega)
  refine ⟨FCT_ext hC hF hE (fun r i w => by have := Wrd_lt _ _ w; omega), ah_n h, ah_n h', hv, ?_, fun r x => Or.inl ?_⟩
  · have := hC.1.2.1; omega
  · refine (fcX_lt hF hC (r := r) ?_).2
    unfold fcX at x ⊢
    rw [e] at x; exact x
/-- facts begin -/
theorem c_199 (hR : RX t n k h) (hm01 : m = 0 ∨ m = 1) (hQ : ∀ h' el, RX t n k h' → Ext Wrd h h' → FCT D (ah_n h) h' (ah_n h) m [] 2 el → (∀ i, ah_m h' 11 i = ah_m h 11 i) → ah_n h' = ah_n h + 3 → ah_s h' = ah_s h + 7 → Q (.inl none) h') : wpC (d + 4) 199 [.inr (.inr (ah_n h)), .inl m] (ah_new h (21, 0) ((2 : Nat) : Int)) Q := by
  have n0 := hR.1.2.1.1
  have hE1 : Ext WN h (ah_new h (21, 0) ((2 : Nat) : Int)) := Ext_new Ext_rfl (by omega)
  have hR1 : RX t n k (ah_new h (21, 0) ((2 : Nat) : Int)) := RX_new hR (by omega)
  have hF1 := hR1.1.2.1
  have tp1 : ah_t (ah_new h (21, 0) ((2 : Nat) : Int)) (ah_n h) = (21, 0) := by rw [ah_t_new, if_pos rfl]
  have n1 : ah_n (ah_new h (21, 0) ((2 : Nat) : Int)) = ah_n h + 1 := ah_n_new
  have s1 : ah_s (ah_new h (21, 0) ((2 : Nat) : Int)) = ah_s h + 2 := by rw [ah_s_new]; rfl
  generalize hP : ah_n h = P at *
  generalize ah_new h (21, 0) ((2 : Nat) : Int) = g1 at *
  have t1 : (ah_t g1 P).1 = 21 := by rw [tp1]
  have p0 : 0 < P := by omega
  have c169 : ∀ {d : Nat} {Q : QQ}, wpC (d + 1) 169 [.inr (.inr P)] g1 Q ↔ Q (.inl none) g1 := by
    intro d Q
    apply CT_iff; apply CT_of; rw [wpC_B]; refine ⟨⟨Nat.zero_lt_succ _, Nat.le_of_ble_eq_true rfl⟩, ?_⟩; simp only [lent]
    simp (disch := omega) only [q_169_0, b_169_0, ↓w_aload_n_0, ↓w_return, ↓w_objinit, stw_0, stw_i, stw_l, stw_r, ofK0, ofK1, ofK2, lst1, lst2, lkill, kont_none, kont_some, Int.reduceToNat, List.length_cons, List.length_nil, Nat.reduceAdd, Nat.reduceLeDiff, Nat.zero_le, true_and, and_true, if_true, if_false, ne_eq, Int.reduceEq, Int.reduceNeg, not_false_eq_true, not_true_eq_false, ↓reduceIte, Int.reduceLT, Int.reduceLE, and_self, or_true, true_or, or_false, false_or, false_and, and_false, ah_t_w, ah_m_w, ah_n_w, lst1_0, List.tail_cons, w32_i, zbd, lst2_0, p0]
  rw [wpC_B]; refine ⟨⟨Nat.zero_lt_succ _, Nat.le_of_ble_eq_true rfl⟩, ?_⟩; simp only [lent]
  simp (disch := omega) only [q_199_0, b_199_0, ↓w_iconst, ↓w_aload_n_0, ↓w_iload_n_1, ↓w_dup_i, ↓w_dup_a, ↓w_putfield_2, ↓w_putfield_3, ↓w_new, ↓w_return, ↓w_invokespecial_0, ↓w_invokespecial_1, stw_0, stw_i, stw_l, stw_r, ofK0, ofK1, ofK2, lst1, lst2, lkill, kont_none, kont_some, Int.reduceToNat, List.length_cons, List.length_nil, Nat.reduceAdd, Nat.reduceLeDiff, Nat.zero_le, true_and, and_true, if_true, if_false, ne_eq, Int.reduceEq, Int.reduceNeg, not_false_eq_true, not_true_eq_false, ↓reduceIte, Int.reduceLT, Int.reduceLE, and_self, or_true, true_or, or_false, false_or, false_and, and_false, ah_t_w, ah_m_w, ah_n_w, lst1_0, List.tail_cons, w32_i, zbd, lst2_0, t1, c169, p0]
  have hE2 : Ext WN g1 (ah_new g1 (3, 0) ((3 : Nat) : Int)) := Ext_new Ext_rfl (by omega)
  have tP : ah_t (ah_new g1 (3, 0) ((3 : Nat) : Int)) (P + 1) = (3, 0) := by rw [ah_t_new, n1, if_pos rfl]
  have mP : ∀ i, ah_m (ah_new g1 (3, 0) ((3 : Nat) : Int)) (P + 1) i = 0 := fun i => by rw [ah_m_new, n1, if_pos rfl]
  have n2 : ah_n (ah_new g1 (3, 0) ((3 : Nat) : Int)) = P + 2 := by rw [ah_n_new, n1]; omega
  have s2 : ah_s (ah_new g1 (3, 0) ((3 : Nat) : Int)) = ah_s h + 5 := by rw [ah_s_new, s1]; show ah_s h + 2 + 3 = _; omega
  rw [n1]
  generalize ah_new g1 (3, 0) ((3 : Nat) : Int) = g2 at *
  refine ⟨by rw [tP], c_38 (d := d) tP (by omega) (by omega) (mP 2) (by omega) (fun h3 hL3 hE3 n3 s3 => ?_)⟩
  rw [n2] at hL3
  have hE3' : Ext WN h h3 := Ext_tr' (Ext_tr hE1 hE2) hE3 (fun r i w => Or.inr (by omega))
  have t3 : ah_t h3 P = (21, 0) := by rw [hE3.2.1 _ (Or.inl (by omega)), hE2.2.1 _ (Or.inl (by omega))]; exact tp1
  have t3' : (ah_t h3 P).1 = 21 := by rw [t3]
  simp (disch := omega) only [b_199_0, ↓w_iconst, ↓w_aload_n_0, ↓w_iload_n_1, ↓w_dup_i, ↓w_dup_a, ↓w_putfield_2, ↓w_putfield_3, ↓w_new, ↓w_return, ↓w_invokespecial_0, ↓w_invokespecial_1, stw_0, stw_i, stw_l, stw_r, ofK0, ofK1, ofK2, lst1, lst2, lkill, kont_none, kont_some, Int.reduceToNat, List.length_cons, List.length_nil, Nat.reduceAdd, Nat.reduceLeDiff, Nat.zero_le, true_and, and_true, if_true, if_false, ne_eq, Int.reduceEq, Int.reduceNeg, not_false_eq_true, not_true_eq_false, ↓reduceIte, Int.reduceLT, Int.reduceLE, and_self, or_true, true_or, or_false, false_or, false_and, and_false, ah_t_w, ah_m_w, ah_n_w, lst1_0, List.tail_cons, w32_i, zbd, lst2_0, t3', p0, hm01]
  generalize hg4 : ah_w (ah_w h3 P 0 (P + 1)) P 1 m = g4
  have hO4 : Off (fun r i => r = P) h3 g4 := by rw [← hg4]; exact Off_w (Off_w Off_rfl rfl) rfl
  have hE4 : Ext WN h g4 := Ext_tr' hE3' (Ext_off hO4) (fun r i w => Or.inr (by omega))
  have T4 : ∀ r, ah_t g4 r = ah_t h3 r := fun r => by rw [Off_t hO4]
  have m40 : ah_m g4 P 0 = P + 1 := by rw [← hg4, ah_m_w, if_neg (by omega), ah_m_w, if_pos ⟨rfl, rfl⟩]
  have m41 : ah_m g4 P 1 = m := by rw [← hg4, ah_m_w, if_pos ⟨rfl, rfl⟩]
  have hr := RX_hi hR hE4 (fun r i w => w.elim)
  refine hQ g4 (P + 2) hr.1 (Ext_mono (fun r i w => w.elim) hE4) ⟨⟨by rw [T4]; exact t3, Int.le_refl _, n0, m41, hm01⟩, ?_, by omega, by simp, fun i q => by simp at q⟩ hr.2 (by rw [Off_n hO4, n3, n2]; omega) (by rw [Off_s hO4, s3, s2]; omega)
  rw [m40]
  obtain ⟨⟨a1, a2, a3⟩, a4, a5, a6⟩ := hL3
  exact ⟨⟨by rw [T4]; exact a1, by rw [hO4.2 _ _ (by omega)]; exact a2, by rw [hO4.2 _ _ (by omega)]; exact a3⟩, by rw [T4]; exact a4, a5, a6⟩
/-- one more -/
theorem c_42r (hR : RX t n k h) (hE0 : Ext Wrd h0 h) (hC : FCT D (ah_n h0) h p m its cap el) (hv : TSq D (ah_n h0) (fcX h p el) h v cs) (hl : its.length ≤ 2000)
    (hQ : ∀ h' cap' el', RX t n k h' → Ext Wrd h0 h' → FCT D (ah_n h0) h' p m (its ++ [cs]) cap' el' → (∀ i, ah_m h' 11 i = ah_m h 11 i) → ah_n h' ≤ ah_n h + 1 → ah_s h' + 4 * cap ≤ ah_s h + 4 * cap' → Q (.inl (some (.inl 1))) h') : wpC (d + 7) 42 [.inr (.inr (ah_m h p 0)), .inr (.inr v)] h Q := by
  have hF := hR.1.2.1
  have hC0 := hC
  obtain ⟨⟨c1, c2, c3, c31, c32⟩, c4, c6, c7, c9⟩ := hC
  have pN : p < ah_n h := FRE_lt hF (by rw [c1]; decide)
  have lN : ah_m h p 0 < ah_n h := FRE_lt hF (by rw [c4.1.1]; decide)
  have tv : ∀ {v cs}, TSq D (ah_n h0) (fcX h p el) h v cs → 1 ≤ (ah_t h v).1 ∧ (ah_t h v).1 ≤ 24 := fun hq => by
    obtain ⟨i, j, q, _⟩ := hq
    have := q.2.1; omega
  have np : p ≠ ah_m h p 0 := fun e => by have := c4.1.1; rw [← e, c1] at this; exact absurd (congrArg Prod.fst this) (by decide)
  have ne : p ≠ el := fun e => by have := c4.2.1; rw [← e, c1] at this; exact absurd (congrArg Prod.fst this) (show (21 : Int) ≠ -10 by decide)
  have nw := RX_hi (h' := h) hR (W' := WN) Ext_rfl (fun r i w => w.elim)
  refine c_42 (d := d) hF c4 (by omega) (fun i i0 i1 => by
      obtain ⟨u, hu⟩ : ∃ u : Nat, i = u := ⟨i.toNat, by omega⟩
      subst hu
      exact tv (c9 u (by omega))) (tv hv) (fun h' cap' el' hL' ei en hE' hel n' s' hcp => ?_)
  have hr := RX_hi hR hE' (fun r i w => by rcases w with w | w <;> omega)
  have m0 : ah_m h' p 0 = ah_m h p 0 := hE'.2.2 _ _ pN (fun w => by rcases w with w | w <;> omega)
  have m1 : ah_m h' p 1 = ah_m h p 1 := hE'.2.2 _ _ pN (fun w => by rcases w with w | w <;> omega)
  have X2 : ∀ {v cs}, TSq D (ah_n h0) (fcX h p el) h v cs → TSq D (ah_n h0) (fcX h' p el') h' v cs := fun hq => TSq_ext hq hE' (fun r i w => by unfold fcX; rcases w with w | w <;> omega) (fun r x => by
    unfold fcX at x ⊢
    rw [m0] at x
    rcases x with x | x | x
    · exact Or.inl (by omega)
    · exact Or.inl (by omega)
    · rcases hel with u | u
      · exact Or.inl (by omega)
      · exact Or.inr (by omega))
  have n0 := hE0.1.1
  refine hQ h' cap' el' hr.1 (Ext_tr' hE0 hE' (fun r i w => Or.inr (by rcases w with w | w <;> omega))) ⟨⟨by rw [hE'.2.1 _ (Or.inl pN)]; exact c1, c2, c3, by rw [m1]; exact c31, c32⟩, ?_, ?_, ?_, fun i q => ?_⟩ hr.2 n' s'
  · rw [m0]; simp only [List.length_append, List.length_singleton]
    rw [show ((its.length + 1 : Nat) : Int) = (its.length : Int) + 1 by omega]; exact hL'
  · rw [m0]
    refine ⟨c6.1, ?_⟩
    rcases hel with u | u <;> omega
  · simp only [List.length_append, List.length_singleton]
    rcases hcp with u | u <;> omega
  · simp only [List.length_append, List.length_singleton] at q
    rw [List.getD_eq_getElem?_getD]
    by_cases e : i = its.length
    · rw [e, List.getElem?_append_right (by omega), Nat.sub_self, en]
      exact X2 hv
    · rw [List.getElem?_append_left (by omega), ei i (by omega) (by omega), ← List.getD_eq_getElem?_getD]
      exact X2 (c9 i (by omega))
end E3
