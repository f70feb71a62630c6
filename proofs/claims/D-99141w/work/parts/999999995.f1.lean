/-! ===== X's reader: a question ===== -/
def Wqs (r i : Int) : Prop := Wrd r i ∨ (r = 11 ∧ (i = 1 ∨ i = 5))
/-- a question in the heap -/
def QSi (h : AH) (p kd : Int) (c : List Int) : Prop := ah_t h p = (20, 0) ∧ (1121 ≤ p ∧ p < ah_n h) ∧ ah_m h p 0 = kd ∧ (0 ≤ kd ∧ kd ≤ 5) ∧ ∃ i j, p < i ∧ ((kd < 3 ∧ TSi 43 i j h (ah_m h p 1) c) ∨ (3 ≤ kd ∧ VSi false 40 i j h (ah_m h p 2) c))
section F1
variable {W' : Int → Int → Prop} {d : Nat} {h h' h1 h2 h0 : AH} {Q : QQ} {x y z k s a b c v n p q r o i N lo hi A B E cap el sp dp capL elL capS elS l' m kd : Int} {S T T' : Int → Int → Int} {t nw nw' pt of tp : Int → Int} {tl : ALoc} {w u W l cs c1 c2 : List Int} {hm : Bool} {D f : Nat} {its : List (List Int)}
set_option maxHeartbeats 4000000
theorem Wqs_d : ∀ r i, Wrd r i → Wqs r i := fun r i w => Or.inl w
theorem Wqs_ok : ∀ r i, Wqs r i → ¬ fix r i ∧ 0 < r := fun r i w => by unfold Wqs Wrd at w; unfold fix isS isV; omega
theorem zkd_fw : zkd t n k = zfw t n k zTOL 0 := by
  simp only [zkd, zfw, zTOL]; rfl
theorem zkd_ln (hle : k ≤ n) (hv : zfw t n k zTOL 0 = v) (h0 : v ≠ -1) : zwe t n k = k + zkl v := by
  simp only [zfw, zTOL] at hv
  by_cases g0 : zhw t n k [102, 105, 114, 115, 116] = true
  · rw [if_pos g0] at hv
    have := zhw_len hle g0
    subst hv; exact this
  rw [if_neg g0] at hv
  by_cases g1 : zhw t n k [108, 97, 115, 116] = true
  · rw [if_pos g1] at hv
    have := zhw_len hle g1
    subst hv; exact this
  rw [if_neg g1] at hv
  by_cases g2 : zhw t n k [111, 102, 116, 101, 110] = true
  · rw [if_pos g2] at hv
    have := zhw_len hle g2
    subst hv; exact this
  rw [if_neg g2] at hv
  by_cases g3 : zhw t n k [116, 111, 116, 97, 108] = true
  · rw [if_pos g3] at hv
    have := zhw_len hle g3
    subst hv; exact this
  rw [if_neg g3] at hv
  by_cases g4 : zhw t n k [109, 111, 115, 116] = true
  · rw [if_pos g4] at hv
    have := zhw_len hle g4
    subst hv; exact this
  rw [if_neg g4] at hv
  by_cases g5 : zhw t n k [108, 101, 97, 115, 116] = true
  · rw [if_pos g5] at hv
    have := zhw_len hle g5
    subst hv; exact this
  rw [if_neg g5] at hv
  exact absurd hv.symm h0
theorem c_166 (tp : (ah_t h p).1 = 20) (p0 : 0 < p) : wpC (d + 1) 166 [.inr (.inr p), .inl kd, .inr (.inr x), .inr (.inr y)] h Q ↔ Q (.inl none) (ah_w (ah_w (ah_w (ah_w h p 3 (-1)) p 0 kd) p 1 x) p 2 y) := by
  apply CT_iff; apply CT_of; rw [wpC_B]; refine ⟨⟨Nat.zero_lt_succ _, Nat.le_of_ble_eq_true rfl⟩, ?_⟩; simp only [lent]
  simp (disch := omega) only [q_166_0, b_166_0, ↓w_ldc2_w, ↓w_aload_n_0, ↓w_iload_n_1, ↓w_aload_n_2, ↓w_aload_n_3, ↓w_putfield_0, ↓w_putfield_1, ↓w_putfield_2, ↓w_return, ↓w_objinit, stw_0, stw_i, stw_l, stw_r, ofK0, ofK1, ofK2, lst1, lst2, lkill, kont_none, kont_some, Int.reduceToNat, List.length_cons, List.length_nil, Nat.reduceAdd, Nat.reduceLeDiff, Nat.zero_le, true_and, and_true, if_true, if_false, ne_eq, Int.reduceEq, Int.reduceNeg, not_false_eq_true, not_true_eq_false, ↓reduceIte, Int.reduceLT, Int.reduceLE, and_self, or_true, true_or, or_false, false_or, false_and, and_false, ah_t_w, ah_m_w, ah_n_w, lst1_0, List.tail_cons, w32_i, zbd, lst2_0, p0, tp]
theorem w4_0 : ah_m (ah_w (ah_w (ah_w (ah_w h p 3 (-1)) p 0 kd) p 1 x) p 2 y) p 0 = kd := by rw [ah_m_w, if_neg (by omega), ah_m_w, if_neg (by omega), ah_m_w, if_pos ⟨rfl, rfl⟩]
theorem w4_1 : ah_m (ah_w (ah_w (ah_w (ah_w h p 3 (-1)) p 0 kd) p 1 x) p 2 y) p 1 = x := by rw [ah_m_w, if_neg (by omega), ah_m_w, if_pos ⟨rfl, rfl⟩]
theorem w4_2 : ah_m (ah_w (ah_w (ah_w (ah_w h p 3 (-1)) p 0 kd) p 1 x) p 2 y) p 2 = y := by rw [ah_m_w, if_pos ⟨rfl, rfl⟩]
theorem w4_3 : ah_m (ah_w (ah_w (ah_w (ah_w h p 3 (-1)) p 0 kd) p 1 x) p 2 y) p 3 = -1 := by rw [ah_m_w, if_neg (by omega), ah_m_w, if_neg (by omega), ah_m_w, if_neg (by omega), ah_m_w, if_pos ⟨rfl, rfl⟩]
theorem w4_4 : ah_m (ah_w (ah_w (ah_w (ah_w h p 3 (-1)) p 0 kd) p 1 x) p 2 y) p 4 = ah_m h p 4 := by rw [ah_m_w, if_neg (by omega), ah_m_w, if_neg (by omega), ah_m_w, if_neg (by omega), ah_m_w, if_neg (by omega)]
theorem c_195 (hI : RXI h) (hT : XTp t n h) (hv : TPV t n)
    (hQ0 : ∀ h' k' a b, zqs t n = .inl (a, b) → RX t n k' h' → Ext Wqs h h' → BXx a b h' → CO h h' (63 * n + 100) (4204 * n + 8000) → Q (.inr 12) h')
    (hQ1 : ∀ h' p k' kd c, zqs t n = .inr (kd, c) → RX t n k' h' → Ext Wqs h h' → ah_n h ≤ p → QSi h' p kd c → ah_m h' p 3 = -1 → ah_m h' p 4 = 0 → CO h h' (63 * n + 100) (4204 * n + 8000) → Q (.inl (some (.inr (.inr p)))) h') : wpC (d + 60) 195 [.inr (.inr 11), .inl n] h Q := by
  have t11 := r_11 hI
  have n16 := hv.1
  have n0 := hI.2.1.1
  rw [wpC_B]; refine ⟨⟨Nat.zero_lt_succ _, Nat.le_of_ble_eq_true rfl⟩, ?_⟩; simp only [lent]
  simp (disch := omega) only [q_195_0, b_195_0, ↓w_iconst, ↓w_sipush, ↓w_getstatic, ↓w_aload_n_0, ↓w_iload_n_1, ↓w_iload_n_2, ↓w_istore_n_2, ↓w_getfield, ↓w_putfield_0, ↓w_if_icmp_ne, ↓w_athrow, ↓w_invokevirtual_0, ↓w_invokestatic_2, ↓w_invokevirtual_2, stw_0, stw_i, stw_l, stw_r, ofK0, ofK1, ofK2, lst1, lst2, lkill, kont_none, kont_some, Int.reduceToNat, List.length_cons, List.length_nil, Nat.reduceAdd, Nat.reduceLeDiff, Nat.zero_le, true_and, and_true, if_true, if_false, ne_eq, Int.reduceEq, Int.reduceNeg, not_false_eq_true, not_true_eq_false, ↓reduceIte, Int.reduceLT, Int.reduceLE, and_self, or_true, true_or, or_false, false_or, false_and, and_false, ah_t_w, ah_m_w, ah_n_w, lst1_0, List.tail_cons, w32_i, zbd, lst2_0, t11]
  generalize hg1 : ah_w (ah_w (ah_w (ah_w h 11 1 n) 11 2 0) 11 4 0) 11 5 2040 = h1
  have hO1 : Off Wqs h h1 := by rw [← hg1]; exact Off_w (Off_w (Off_w (Off_w Off_rfl (by unfold Wqs Wrd; omega)) (by unfold Wqs Wrd; omega)) (by unfold Wqs Wrd; omega)) (by unfold Wqs Wrd; omega)
  have hR1 : RX t n 0 h1 := by
    refine ⟨RXI_ext hI (Ext_off hO1) Wqs_ok, ?_, ?_, XTp_ext hT hI.2.1 (Ext_off hO1) (fun r i w => by unfold Wqs Wrd at w; omega), hv, by omega⟩
    · rw [← hg1, ah_m_w, if_neg (by omega), ah_m_w, if_neg (by omega), ah_m_w, if_neg (by omega), ah_m_w, if_pos ⟨rfl, rfl⟩]
    · rw [← hg1, ah_m_w, if_neg (by omega), ah_m_w, if_neg (by omega), ah_m_w, if_pos ⟨rfl, rfl⟩]
  have e41 : ah_m h1 11 4 = 7 - ((7 : Nat) : Int) := by rw [← hg1, ah_m_w, if_neg (by omega), ah_m_w, if_pos ⟨rfl, rfl⟩]; rfl
  have e51 : ah_m h1 11 5 = zctxt false := by rw [← hg1, ah_m_w, if_pos ⟨rfl, rfl⟩]; rfl
  have n1 := Off_n hO1
  have s1 := Off_s hO1
  have hE1 : Ext Wqs h h1 := Ext_off hO1
  clear hg1
  have hsk := zsk_le (t := t) (n := n) (k := 0) (by omega)
  unfold zqs at hQ0 hQ1
  refine c_173 (d := d + 52) hR1 (fun h2 nb hR2 hO2 hb => ?_) (fun h2 p wb hR2 hE2 e32 hw n2 s2 => ?_)
  · rw [kont_0]
    have : zkd t n (zsk t n 0) = -1 := by rw [zkd_fw]; exact (zfw_no zTOL 0 (by omega)).2 (by simp [zTOL, zhw_nb nb])
    rw [if_pos this] at hQ0
    refine hQ0 h2 _ _ _ rfl hR2 (Ext_tr hE1 (Ext_off (Off_mono (fun r i w => Wqs_d r i (Wnm_d r i w)) hO2))) hb ?_
    have := Off_n hO2; have := Off_s hO2; unfold CO; omega
  have hwl := zwe_le (t := t) (n := n) (k := zsk t n 0) (by omega)
  have t2 := r_11 hR2.1
  have hE2' : Ext Wqs h h2 := Ext_tr hE1 (Ext_mono (fun r i w => Wqs_d r i (Wnm_d r i w)) hE2)
  have e42 := Wnm_e hR1 hE2
  have p0 : 0 < p := by have := hw.2.1.1; omega
  have c33 : ∀ {Q : QQ}, wpC (d + 59) 93 [.inr (.inr p), .inr (.inr (-303))] h2 Q ↔ _ := fun {Q} => f_303 (d := d + 56) hR2.1.2.2 wb (by omega) (by omega) n16.2 hw.1 p0
  have hfb := zfw_b (t := t) (n := n) (k := zsk t n 0) zTOL 0 (by omega)
  have hla : zTOL.length = 6 := rfl
  rw [hla] at hfb
  rw [zkd_fw] at hQ0 hQ1
  generalize ev : zfw t n (zsk t n 0) zTOL 0 = v at *
  by_cases gv : v = -1
  · rw [if_pos gv] at hQ0
    simp (disch := omega) only [b_195_0, ↓w_iconst, ↓w_sipush, ↓w_getstatic, ↓w_aload_n_0, ↓w_iload_n_1, ↓w_iload_n_2, ↓w_istore_n_2, ↓w_getfield, ↓w_putfield_0, ↓w_if_icmp_ne, ↓w_athrow, ↓w_invokevirtual_0, ↓w_invokestatic_2, ↓w_invokevirtual_2, stw_0, stw_i, stw_l, stw_r, ofK0, ofK1, ofK2, lst1, lst2, lkill, kont_none, kont_some, Int.reduceToNat, List.length_cons, List.length_nil, Nat.reduceAdd, Nat.reduceLeDiff, Nat.zero_le, true_and, and_true, if_true, if_false, ne_eq, Int.reduceEq, Int.reduceNeg, not_false_eq_true, not_true_eq_false, ↓reduceIte, Int.reduceLT, Int.reduceLE, and_self, or_true, true_or, or_false, false_or, false_and, and_false, ah_t_w, ah_m_w, ah_n_w, lst1_0, List.tail_cons, w32_i, zbd, lst2_0, c33, eq_true gv, t2, e32]
    refine thrw (d := d + 58) hR2 (fun h3 hR3 hO3 hb => hQ0 h3 _ _ _ rfl hR3 (Ext_tr hE2' (Ext_off (Off_mono (fun r i w => Wqs_d r i (W12_d r i w)) hO3))) hb ?_)
    have := Off_n hO3; have := Off_s hO3; unfold CO; omega
  rw [if_neg gv] at hQ0 hQ1
  have hln := zkd_ln hsk.2 ev gv
  have hk45 : 4 ≤ zkl v ∧ zkl v ≤ 5 := by unfold zkl; split <;> omega
  rw [hln] at hR2 s2
  have hzF : 6 * n + 10 = (zF n : Int) := by unfold zF; omega
  have nn2 := hE2'.1
  have hR3 : RX t n (zsk t n 0 + zkl v) (ah_new h2 (20, 0) ((5 : Nat) : Int)) := RX_new hR2 (by omega)
  have hE3 : Ext Wrd h2 (ah_new h2 (20, 0) ((5 : Nat) : Int)) := Ext_new Ext_rfl (by omega)
  have m3 : ∀ i, ah_m (ah_new h2 (20, 0) ((5 : Nat) : Int)) 11 i = ah_m h2 11 i := fun i => by rw [ah_m_new, if_neg (by omega)]
  have mz : ∀ i, ah_m (ah_new h2 (20, 0) ((5 : Nat) : Int)) (ah_n h2) i = 0 := fun i => by rw [ah_m_new, if_pos rfl]
  have tp3 : ah_t (ah_new h2 (20, 0) ((5 : Nat) : Int)) (ah_n h2) = (20, 0) := by rw [ah_t_new, if_pos rfl]
  have n3 : ah_n (ah_new h2 (20, 0) ((5 : Nat) : Int)) = ah_n h2 + 1 := ah_n_new
  have s3 : ah_s (ah_new h2 (20, 0) ((5 : Nat) : Int)) = ah_s h2 + 5 := by rw [ah_s_new]; rfl
  have t3 := r_11 hR3.1
  -- the end
  have fin : ∀ (hx : AH) (k' k1 : Int) (c : List Int) (l2 : Option AV), RX t n k' hx → zsk t n k' = zsk t n k1 → Ext Wqs h hx → QSi hx (ah_n h2) v c → ah_m hx (ah_n h2) 3 = -1 → ah_m hx (ah_n h2) 4 = 0 → CO h hx (63 * n + 100) (4204 * n + 8000) → ((if v < 3 then zxt t n (zF n) 0 (zsk t n 0 + zkl v) 0 else zex false t n (zF n) 0 (zsk t n 0 + zkl v) 0) = .inr (k1, c)) → wpB (d + 59) 195 82 [some (.inr (.inr 11)), some (.inl n), some (.inl v)] [.inr (.inr (ah_n h2))] hx Q := by
    intro hx k' k1 c l2 hRx hzk hEx hq q3 q4 co ez
    rw [ez] at hQ0 hQ1
    simp only [] at hQ0 hQ1
    rw [← hzk] at hQ0 hQ1
    have tx := r_11 hRx.1
    simp (disch := omega) only [q_195_82, b_195_82, ↓w_iconst, ↓w_aload_n_0, ↓w_astore_n_3, ↓w_getfield, ↓w_if_icmp_eq, ↓w_athrow, ↓w_invokevirtual_0, ↓w_invokevirtual_2, stw_0, stw_i, stw_l, stw_r, ofK0, ofK1, ofK2, lst1, lst2, lkill, kont_none, kont_some, Int.reduceToNat, List.length_cons, List.length_nil, Nat.reduceAdd, Nat.reduceLeDiff, Nat.zero_le, true_and, and_true, if_true, if_false, ne_eq, Int.reduceEq, Int.reduceNeg, not_false_eq_true, not_true_eq_false, ↓reduceIte, Int.reduceLT, Int.reduceLE, and_self, or_true, true_or, or_false, false_or, false_and, and_false, ah_t_w, ah_m_w, ah_n_w, lst1_0, List.tail_cons, w32_i, zbd, lst2_0, tx]
    refine c_174 (d := d + 57) hRx (fun hy hRy hOy => ?_)
    have ty := r_11 hRy.1
    have e2y := hRy.2.2.1
    have hEy : Ext Wrd hx hy := Ext_off (Off_mono Wr2_d hOy)
    have hEy' : Ext Wqs h hy := Ext_tr hEx (Ext_mono Wqs_d hEy)
    have ny := Off_n hOy
    have sy := Off_s hOy
    by_cases gb : zB t n (zsk t n k') = -1
    · rw [if_pos gb] at hQ1
      simp (disch := omega) only [b_195_82, q_195_101, b_195_101, ↓w_iconst, ↓w_aload_n_0, ↓w_aload_n_3, ↓w_astore_n_3, ↓w_getfield, ↓w_if_icmp_eq, ↓w_areturn, ↓w_athrow, ↓w_invokevirtual_0, ↓w_invokevirtual_2, stw_0, stw_i, stw_l, stw_r, ofK0, ofK1, ofK2, lst1, lst2, lkill, kont_none, kont_some, Int.reduceToNat, List.length_cons, List.length_nil, Nat.reduceAdd, Nat.reduceLeDiff, Nat.zero_le, true_and, and_true, if_true, if_false, ne_eq, Int.reduceEq, Int.reduceNeg, not_false_eq_true, not_true_eq_false, ↓reduceIte, Int.reduceLT, Int.reduceLE, and_self, or_true, true_or, or_false, false_or, false_and, and_false, ah_t_w, ah_m_w, ah_n_w, lst1_0, List.tail_cons, w32_i, zbd, lst2_0, gb]
      refine hQ1 hy (ah_n h2) _ v c rfl hRy hEy' (by omega) ?_ (by rw [hOy.2 _ _ (by unfold Wr2; omega)]; exact q3) (by rw [hOy.2 _ _ (by unfold Wr2; omega)]; exact q4) (by unfold CO at co ⊢; omega)
      obtain ⟨a1, a2, a3, a4, i, j, a5, a6⟩ := hq
      have em : ∀ i, ah_m hy (ah_n h2) i = ah_m hx (ah_n h2) i := fun i => hOy.2 _ _ (by unfold Wr2; omega)
      refine ⟨by rw [Off_t hOy]; exact a1, by omega, by rw [em]; exact a3, a4, i, j, a5, ?_⟩
      rw [em, em]
      rcases a6 with q | q
      · exact Or.inl ⟨q.1, TSi_lo q.2 hEy⟩
      · exact Or.inr ⟨q.1, VSi_lo q.2 hEy⟩
    · rw [if_neg gb] at hQ0
      simp (disch := omega) only [b_195_82, ↓w_iconst, ↓w_aload_n_0, ↓w_astore_n_3, ↓w_getfield, ↓w_if_icmp_eq, ↓w_athrow, ↓w_invokevirtual_0, ↓w_invokevirtual_2, stw_0, stw_i, stw_l, stw_r, ofK0, ofK1, ofK2, lst1, lst2, lkill, kont_none, kont_some, Int.reduceToNat, List.length_cons, List.length_nil, Nat.reduceAdd, Nat.reduceLeDiff, Nat.zero_le, true_and, and_true, if_true, if_false, ne_eq, Int.reduceEq, Int.reduceNeg, not_false_eq_true, not_true_eq_false, ↓reduceIte, Int.reduceLT, Int.reduceLE, and_self, or_true, true_or, or_false, false_or, false_and, and_false, ah_t_w, ah_m_w, ah_n_w, lst1_0, List.tail_cons, w32_i, zbd, lst2_0, gb, ty, e2y]
      refine thrw (d := d + 58) hRy (fun hz hRz hOz hb => hQ0 hz _ _ _ rfl hRz (Ext_tr hEy' (Ext_off (Off_mono (fun r i w => Wqs_d r i (W12_d r i w)) hOz))) hb ?_)
      have := Off_n hOz; have := Off_s hOz; unfold CO at co ⊢; omega
  by_cases g3 : v < 3
  · rw [if_pos g3] at hQ0 hQ1 fin
    have hs := (CT_all (t := t) (n := n) (zF n)).1
    simp (disch := omega) only [b_195_0, q_195_48, b_195_48, ↓w_iconst, ↓w_sipush, ↓w_getstatic, ↓w_aconst_null, ↓w_aload_n_0, ↓w_iload_n_1, ↓w_iload_n_2, ↓w_istore_n_2, ↓w_dup_i, ↓w_dup_a, ↓w_getfield, ↓w_putfield_0, ↓w_new, ↓w_goto, ↓w_if_icmp_ne, ↓w_if_icmp_ge, ↓w_athrow, ↓w_invokevirtual_0, ↓w_invokestatic_2, ↓w_invokevirtual_2, ↓w_invokespecial_3, stw_0, stw_i, stw_l, stw_r, ofK0, ofK1, ofK2, lst1, lst2, lkill, kont_none, kont_some, Int.reduceToNat, List.length_cons, List.length_nil, Nat.reduceAdd, Nat.reduceLeDiff, Nat.zero_le, true_and, and_true, if_true, if_false, ne_eq, Int.reduceEq, Int.reduceNeg, not_false_eq_true, not_true_eq_false, ↓reduceIte, Int.reduceLT, Int.reduceLE, and_self, or_true, true_or, or_false, false_or, false_and, and_false, ah_t_w, ah_m_w, ah_n_w, lst1_0, List.tail_cons, w32_i, zbd, lst2_0, c33, gv, g3, t2, t3]
    generalize ah_new h2 (20, 0) ((5 : Nat) : Int) = h3 at *
    refine wpC_deep (hs 7 0 (zsk t n 0 + zkl v) h3 _ (by omega) (by omega) hR3 (by rw [m3, e42.1]; exact e41) (by rw [m3, e42.2]; exact e51) (by simp [zrk]; omega) (fun h4 k' a b ez hR4 hE4 hb co => ?_) (fun h4 p1 k' k1 c1 ez hR4 hzk hkk hE4 e44 hv1 co => ?_)) (by omega)
    · rw [kont_0]
      have ez : zxt t n (zF n) 0 (zsk t n 0 + zkl v) 0 = .inl (a, b) := ez
      rw [ez] at hQ0
      refine hQ0 h4 k' a b rfl hR4 (Ext_tr hE2' (Ext_mono Wqs_d (Ext_tr hE3 hE4))) hb ?_
      unfold CO at co ⊢; omega
    have ez : zxt t n (zF n) 0 (zsk t n 0 + zkl v) 0 = .inr (k1, c1) := ez
    have hk4 := hR4.2.2.2.2.2
    have nn4 := hE4.1
    have tp4 : ah_t h4 (ah_n h2) = (20, 0) := by rw [hE4.2.1 _ (Or.inl (by omega))]; exact tp3
    have tp4' : (ah_t h4 (ah_n h2)).1 = 20 := by rw [tp4]
    have mz4 : ah_m h4 (ah_n h2) 4 = 0 := by rw [hE4.2.2 _ _ (by omega) (fun w => by have := Wrd_lt _ _ w; omega)]; exact mz 4
    simp (disch := omega) only [b_195_48, ↓w_iconst, ↓w_aconst_null, ↓w_aload_n_0, ↓w_iload_n_2, ↓w_dup_i, ↓w_dup_a, ↓w_new, ↓w_goto, ↓w_if_icmp_ge, ↓w_invokevirtual_0, ↓w_invokespecial_3, stw_0, stw_i, stw_l, stw_r, ofK0, ofK1, ofK2, lst1, lst2, lkill, kont_none, kont_some, Int.reduceToNat, List.length_cons, List.length_nil, Nat.reduceAdd, Nat.reduceLeDiff, Nat.zero_le, true_and, and_true, if_true, if_false, ne_eq, Int.reduceEq, Int.reduceNeg, not_false_eq_true, not_true_eq_false, ↓reduceIte, Int.reduceLT, Int.reduceLE, and_self, or_true, true_or, or_false, false_or, false_and, and_false, ah_t_w, ah_m_w, ah_n_w, lst1_0, List.tail_cons, w32_i, zbd, lst2_0, tp4', c_166 (d := d + 58) tp4' (by omega)]
    have hE5 : Ext (fun r i => r = ah_n h2) h4 (ah_w (ah_w (ah_w (ah_w h4 (ah_n h2) 3 (-1)) (ah_n h2) 0 v) (ah_n h2) 1 p1) (ah_n h2) 2 0) := Ext_w (Ext_w (Ext_w (Ext_w Ext_rfl (Or.inl rfl)) (Or.inl rfl)) (Or.inl rfl)) (Or.inl rfl)
    have hr5 := RX_hi hR4 hE5 (fun r i w => by omega)
    refine fin _ k' k1 c1 none hr5.1 hzk (Ext_tr' (Ext_tr hE2' (Ext_mono Wqs_d (Ext_tr hE3 hE4))) hE5 (fun r i w => Or.inr (by omega))) ⟨tp4, by show _ ∧ _ < ah_n h4; omega, w4_0, by omega, ah_n h3, ah_n h4, by omega, Or.inl ⟨g3, ?_⟩⟩ w4_3 (by rw [w4_4]; exact mz4) ?_ ez
    · rw [w4_1]
      exact TSi_ext hv1 (fun r r0 r1 => ⟨hE5.2.1 r (Or.inl (by omega)), fun i => hE5.2.2 r i (by omega) (by omega)⟩) hE5.1.1
    · unfold CO at co ⊢; show ah_n h4 ≤ _ ∧ ah_s h4 ≤ _; omega
  · rw [if_neg g3] at hQ0 hQ1 fin
    have hs := (CE_all (hm := false) (t := t) (n := n) (zF n)).1
    simp (disch := omega) only [b_195_0, q_195_48, b_195_48, q_195_69, b_195_69, ↓w_iconst, ↓w_sipush, ↓w_getstatic, ↓w_aconst_null, ↓w_aload_n_0, ↓w_iload_n_1, ↓w_iload_n_2, ↓w_istore_n_2, ↓w_dup_i, ↓w_dup_a, ↓w_getfield, ↓w_putfield_0, ↓w_new, ↓w_nop, ↓w_goto, ↓w_if_icmp_ne, ↓w_if_icmp_ge, ↓w_athrow, ↓w_invokevirtual_0, ↓w_invokestatic_2, ↓w_invokevirtual_2, ↓w_invokespecial_3, stw_0, stw_i, stw_l, stw_r, ofK0, ofK1, ofK2, lst1, lst2, lkill, kont_none, kont_some, Int.reduceToNat, List.length_cons, List.length_nil, Nat.reduceAdd, Nat.reduceLeDiff, Nat.zero_le, true_and, and_true, if_true, if_false, ne_eq, Int.reduceEq, Int.reduceNeg, not_false_eq_true, not_true_eq_false, ↓reduceIte, Int.reduceLT, Int.reduceLE, and_self, or_true, true_or, or_false, false_or, false_and, and_false, ah_t_w, ah_m_w, ah_n_w, lst1_0, List.tail_cons, w32_i, zbd, lst2_0, c33, gv, g3, t2, t3]
    generalize ah_new h2 (20, 0) ((5 : Nat) : Int) = h3 at *
    refine wpC_deep (hs 7 0 (zsk t n 0 + zkl v) h3 _ (by omega) (by omega) hR3 (by rw [m3, e42.1]; exact e41) (by rw [m3, e42.2]; exact e51) (by simp [zrk]; omega) (fun h4 k' a b ez hR4 hE4 hb co => ?_) (fun h4 p1 k1 c1 ez hR4 hE4 e44 hv1 co => ?_)) (by omega)
    · rw [kont_0]
      have ez : zex false t n (zF n) 0 (zsk t n 0 + zkl v) 0 = .inl (a, b) := ez
      rw [ez] at hQ0
      refine hQ0 h4 k' a b rfl hR4 (Ext_tr hE2' (Ext_mono Wqs_d (Ext_tr hE3 hE4))) hb ?_
      unfold CO at co ⊢; omega
    have ez : zex false t n (zF n) 0 (zsk t n 0 + zkl v) 0 = .inr (k1, c1) := ez
    have hk4 := hR4.2.2.2.2.2
    have nn4 := hE4.1
    have tp4 : ah_t h4 (ah_n h2) = (20, 0) := by rw [hE4.2.1 _ (Or.inl (by omega))]; exact tp3
    have tp4' : (ah_t h4 (ah_n h2)).1 = 20 := by rw [tp4]
    have mz4 : ah_m h4 (ah_n h2) 4 = 0 := by rw [hE4.2.2 _ _ (by omega) (fun w => by have := Wrd_lt _ _ w; omega)]; exact mz 4
    simp (disch := omega) only [b_195_69, ↓w_aconst_null, ↓w_aload_n_0, ↓w_iload_n_2, ↓w_dup_i, ↓w_dup_a, ↓w_new, ↓w_nop, ↓w_invokevirtual_0, ↓w_invokespecial_3, stw_0, stw_i, stw_l, stw_r, ofK0, ofK1, ofK2, lst1, lst2, lkill, kont_none, kont_some, Int.reduceToNat, List.length_cons, List.length_nil, Nat.reduceAdd, Nat.reduceLeDiff, Nat.zero_le, true_and, and_true, if_true, if_false, ne_eq, Int.reduceEq, Int.reduceNeg, not_false_eq_true, not_true_eq_false, ↓reduceIte, Int.reduceLT, Int.reduceLE, and_self, or_true, true_or, or_false, false_or, false_and, and_false, ah_t_w, ah_m_w, ah_n_w, lst1_0, List.tail_cons, w32_i, zbd, lst2_0, tp4', c_166 (d := d + 58) tp4' (by omega)]
    have hE5 : Ext (fun r i => r = ah_n h2) h4 (ah_w (ah_w (ah_w (ah_w h4 (ah_n h2) 3 (-1)) (ah_n h2) 0 v) (ah_n h2) 1 0) (ah_n h2) 2 p1) := Ext_w (Ext_w (Ext_w (Ext_w Ext_rfl (Or.inl rfl)) (Or.inl rfl)) (Or.inl rfl)) (Or.inl rfl)
    have hr5 := RX_hi hR4 hE5 (fun r i w => by omega)
    refine fin _ k1 k1 c1 none hr5.1 rfl (Ext_tr' (Ext_tr hE2' (Ext_mono Wqs_d (Ext_tr hE3 hE4))) hE5 (fun r i w => Or.inr (by omega))) ⟨tp4, by show _ ∧ _ < ah_n h4; omega, w4_0, by omega, ah_n h3, ah_n h4, by omega, Or.inr ⟨by omega, ?_⟩⟩ w4_3 (by rw [w4_4]; exact mz4) ?_ ez
    · rw [w4_2]
      exact VSi_ext hv1 (fun r r0 r1 => ⟨hE5.2.1 r (Or.inl (by omega)), fun i => hE5.2.2 r i (by omega) (by omega)⟩) hE5.1.1
    · unfold CO at co ⊢; show ah_n h4 ≤ _ ∧ ah_s h4 ≤ _; omega
end F1
