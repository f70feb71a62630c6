/-! ===== what is read goes on obeying ===== -/
section INV2
variable {d : Nat} {h h0 : AH} {Q : QQ} {x y z m k s l w a b c v n p r o lo hi bg : Int} {S : Int → Int → Int} {t : Int → Int} {cs : List Int}
set_option maxHeartbeats 4000000
theorem zfind_b {a v : Int} : ∀ (j : Nat) (i : Int), 0 ≤ i → zfind S a v j i ≠ -1 → i ≤ zfind S a v j i ∧ zfind S a v j i < i + j := by
  intro j
  induction j with
  | zero => intro i _ e; exact absurd rfl e
  | succ j ih =>
    intro i h0 e
    simp only [zfind] at e ⊢
    by_cases g : S 1073 (8 * a + i) = v
    · rw [if_pos g]; omega
    · rw [if_neg g] at e ⊢
      have := ih (i + 1) (by omega) e; omega
theorem zdupm_no : ∀ (j : Nat) (i : Int), zdupm S x y j i = false → ∀ q, i ≤ q → q < i + j → ¬ (S 1077 (2 * q) = x ∧ S 1077 (2 * q + 1) = y) := by
  intro j
  induction j with
  | zero => intro i e q h1 h2; omega
  | succ j ih =>
    intro i e q h1 h2
    simp only [zdupm] at e
    by_cases g : S 1077 (2 * i) = x ∧ S 1077 (2 * i + 1) = y
    · rw [if_pos g] at e; cases e
    · rw [if_neg g] at e
      by_cases g2 : q = i
      · rw [g2]; exact g
      · exact ih _ e q (by omega) (by omega)
theorem zcl_c {f g : Int → Int} : ∀ (j : Nat) (k : Int), (∀ i, k ≤ i → i < k + j → f i = g i) → zcl f j k = zcl g j k := by
  intro j
  induction j with
  | zero => intro k _; rfl
  | succ j ih => intro k e; simp only [zcl]; rw [e k (by omega) (by omega), ih (k + 1) (fun i a b => e i (by omega) (by omega))]
theorem zcl_l : ∀ (c pre : List Int), zcl (zlf (pre ++ c)) c.length pre.length = c := by
  intro c
  induction c with
  | nil => intro pre; rfl
  | cons x c ih =>
    intro pre
    simp only [List.length_cons, zcl]
    have h1 : zlf (pre ++ x :: c) pre.length = x := by unfold zlf; simp
    have h2 := ih (pre ++ [x])
    simp only [List.append_assoc, List.cons_append, List.nil_append, List.length_append, List.length_cons, List.length_nil] at h2
    rw [h1]
    have e : ((pre.length : Int) + 1) = ((pre.length + (0 + 1) : Nat) : Int) := by simp
    rw [e, h2]
theorem SP_k {wy re wo cr : Int} (hS : SP S) (h5 : S 1072 0 ≠ 5) (hv : 0 ≤ v ∧ v < 387420489) (h1 : 1 ≤ wy ∧ wy ≤ 4) (h2 : 1 ≤ re ∧ re ≤ 4) (h3 : 0 ≤ wo ∧ wo ≤ 99) (h4 : cr = 0 ∨ cr = 1) : SP (zkst S v wy re wo cr) := by
  obtain ⟨a1, a2, a3, a4, a5, a6, a7, a8, a9⟩ := hS
  have c0 := a1.1
  have e72 : ∀ i, zkst S v wy re wo cr 1072 i = if i = 0 then S 1072 0 + 1 else S 1072 i := fun i => by
    unfold zkst zadd; simp only [zw_o (S := _) (show (1072 : Int) ≠ 1075 by decide), zw_i, zw_o (S := _) (show (1072 : Int) ≠ 1073 by decide)]
  have eo : ∀ r i, r ≠ 1072 → r ≠ 1073 → r ≠ 1075 → zkst S v wy re wo cr r i = S r i := fun r i p q u => by
    unfold zkst zadd; simp only [zw_o (S := _) p, zw_o (S := _) q, zw_o (S := _) u]
  have f0 : zkst S v wy re wo cr 1072 0 = S 1072 0 + 1 := by rw [e72, if_pos rfl]
  have f1 : zkst S v wy re wo cr 1072 1 = S 1072 1 := by rw [e72, if_neg (by decide)]
  have f2 : zkst S v wy re wo cr 1072 2 = S 1072 2 := by rw [e72, if_neg (by decide)]
  have g1 := SRg_k a4 ⟨c0.1, by omega⟩ hv h1 h2 h3 h4
  have e82 : zkst S v wy re wo cr 1082 = S 1082 := funext fun i => eo _ _ (by decide) (by decide) (by decide)
  unfold SP SC
  rw [f0, f1, f2, eo 1074 0 (by decide) (by decide) (by decide), eo 1074 1 (by decide) (by decide) (by decide), eo 1074 2 (by decide) (by decide) (by decide), eo 1074 3 (by decide) (by decide) (by decide), eo 1079 0 (by decide) (by decide) (by decide), eo 1079 1 (by decide) (by decide) (by decide), eo 1080 0 (by decide) (by decide) (by decide), eo 1081 0 (by decide) (by decide) (by decide), e82]
  refine ⟨⟨by omega, a1.2⟩, a2, a3, g1, fun m p q => ?_, fun m p q => ?_, fun m u p q u0 u1 => ?_, a8, a9⟩
  · rw [eo _ _ (by decide) (by decide) (by decide)]; have := a5 m p q; omega
  · rw [eo _ _ (by decide) (by decide) (by decide), eo _ _ (by decide) (by decide) (by decide)]; exact a6 m p q
  · rw [eo _ _ (by decide) (by decide) (by decide), eo _ _ (by decide) (by decide) (by decide), eo _ _ (by decide) (by decide) (by decide), eo _ _ (by decide) (by decide) (by decide)]; exact a7 m u p q u0 u1
theorem SP_m {kd sd : Int} (hS : SP S) (h5 : S 1072 1 ≠ 8) (hv : 0 ≤ v ∧ v < 387420489) (h1 : 0 ≤ kd ∧ kd < S 1072 0) (h2 : 0 ≤ sd ∧ sd ≤ 1) (h3 : 0 ≤ x ∧ x ≤ S 1074 0 - 1) (h4 : 0 ≤ y ∧ y ≤ S 1074 1 - 1) (hd : zdupm S x y (S 1072 1).toNat 0 = false) : SP (zmst S v kd sd x y) := by
  obtain ⟨a1, a2, a3, a4, a5, a6, a7, a8, a9⟩ := hS
  have c0 := a1.1; have c1 := a1.2.1
  have e72 : ∀ i, zmst S v kd sd x y 1072 i = if i = 1 then S 1072 1 + 1 else S 1072 i := fun i => by
    unfold zmst zadd; simp only [zw_o (S := _) (show (1072 : Int) ≠ 1077 by decide), zw_o (S := _) (show (1072 : Int) ≠ 1076 by decide), zw_i, zw_o (S := _) (show (1072 : Int) ≠ 1073 by decide)]
  have eo : ∀ r i, r ≠ 1072 → r ≠ 1073 → r ≠ 1076 → r ≠ 1077 → zmst S v kd sd x y r i = S r i := fun r i p q u w => by
    unfold zmst zadd; simp only [zw_o (S := _) p, zw_o (S := _) q, zw_o (S := _) u, zw_o (S := _) w]
  have e76 : ∀ i, zmst S v kd sd x y 1076 i = if i = 2 * S 1072 1 + 1 then sd else if i = 2 * S 1072 1 then kd else S 1076 i := fun i => by
    unfold zmst zadd; simp only [zw_o (S := _) (show (1076 : Int) ≠ 1077 by decide), zw_i, zw_o (S := _) (show (1076 : Int) ≠ 1072 by decide), zw_o (S := _) (show (1076 : Int) ≠ 1073 by decide)]
  have e77 : ∀ i, zmst S v kd sd x y 1077 i = if i = 2 * S 1072 1 + 1 then y else if i = 2 * S 1072 1 then x else S 1077 i := fun i => by
    unfold zmst zadd; simp only [zw_i, zw_o (S := _) (show (1077 : Int) ≠ 1076 by decide), zw_o (S := _) (show (1077 : Int) ≠ 1072 by decide), zw_o (S := _) (show (1077 : Int) ≠ 1073 by decide)]
  have f0 : zmst S v kd sd x y 1072 0 = S 1072 0 := by rw [e72, if_neg (by decide)]
  have f1 : zmst S v kd sd x y 1072 1 = S 1072 1 + 1 := by rw [e72, if_pos rfl]
  have f2 : zmst S v kd sd x y 1072 2 = S 1072 2 := by rw [e72, if_neg (by decide)]
  have g1 := SRg_m a4 ⟨c1.1, by omega⟩ hv ⟨h1.1, by omega⟩ h2 (show 0 ≤ x ∧ x < 5 by omega) (show 0 ≤ y ∧ y < 5 by omega)
  have e82 : zmst S v kd sd x y 1082 = S 1082 := funext fun i => eo _ _ (by decide) (by decide) (by decide) (by decide)
  unfold SP SC
  rw [f0, f1, f2, eo 1074 0 (by decide) (by decide) (by decide) (by decide), eo 1074 1 (by decide) (by decide) (by decide) (by decide), eo 1074 2 (by decide) (by decide) (by decide) (by decide), eo 1074 3 (by decide) (by decide) (by decide) (by decide), eo 1079 0 (by decide) (by decide) (by decide) (by decide), eo 1079 1 (by decide) (by decide) (by decide) (by decide), eo 1080 0 (by decide) (by decide) (by decide) (by decide), eo 1081 0 (by decide) (by decide) (by decide) (by decide), e82]
  refine ⟨⟨a1.1, by omega, a1.2.2⟩, a2, a3, g1, fun m p q => ?_, fun m p q => ?_, fun m u p q u0 u1 => ?_, a8, a9⟩
  · rw [e76]
    by_cases g : m = S 1072 1
    · rw [if_neg (by omega), if_pos (by omega)]; exact h1.2
    · rw [if_neg (by omega), if_neg (by omega)]; exact a5 m p (by omega)
  · rw [e77, e77]
    by_cases g : m = S 1072 1
    · rw [if_neg (by omega), if_pos (by omega), if_pos (by omega)]; omega
    · rw [if_neg (by omega), if_neg (by omega), if_neg (by omega), if_neg (by omega)]; exact a6 m p (by omega)
  · rw [e77, e77, e77, e77]
    rw [if_neg (show ¬ 2 * u = 2 * S 1072 1 + 1 by omega), if_neg (show ¬ 2 * u = 2 * S 1072 1 by omega), if_neg (show ¬ 2 * u + 1 = 2 * S 1072 1 + 1 by omega), if_neg (show ¬ 2 * u + 1 = 2 * S 1072 1 by omega)]
    by_cases g : m = S 1072 1
    · rw [if_neg (by omega), if_pos (by omega), if_pos (by omega)]
      intro q'
      exact zdupm_no _ _ hd u u0 (by omega) ⟨q'.1.symm, q'.2.symm⟩
    · rw [if_neg (by omega), if_neg (by omega), if_neg (by omega), if_neg (by omega)]
      exact a7 m u p (by omega) u0 u1
theorem SP_f {nb : Int} (hS : SP S) (h5 : S 1072 2 ≠ 6) (hv : 0 ≤ v ∧ v < 387420489) (h3 : 0 ≤ x ∧ x ≤ S 1074 0 - 1) (h4 : 0 ≤ y ∧ y ≤ S 1074 1 - 1) (h1 : 1 ≤ nb ∧ nb ≤ 999) : SP (zfst S v x y nb) := by
  obtain ⟨a1, a2, a3, a4, a5, a6, a7, a8, a9⟩ := hS
  have c2 := a1.2.2
  have e72 : ∀ i, zfst S v x y nb 1072 i = if i = 2 then S 1072 2 + 1 else S 1072 i := fun i => by
    unfold zfst zadd; simp only [zw_o (S := _) (show (1072 : Int) ≠ 1078 by decide), zw_i, zw_o (S := _) (show (1072 : Int) ≠ 1073 by decide)]
  have eo : ∀ r i, r ≠ 1072 → r ≠ 1073 → r ≠ 1078 → zfst S v x y nb r i = S r i := fun r i p q u => by
    unfold zfst zadd; simp only [zw_o (S := _) p, zw_o (S := _) q, zw_o (S := _) u]
  have f0 : zfst S v x y nb 1072 0 = S 1072 0 := by rw [e72, if_neg (by decide)]
  have f1 : zfst S v x y nb 1072 1 = S 1072 1 := by rw [e72, if_neg (by decide)]
  have f2 : zfst S v x y nb 1072 2 = S 1072 2 + 1 := by rw [e72, if_pos rfl]
  have g1 := SRg_f a4 ⟨c2.1, by omega⟩ hv (show 0 ≤ x ∧ x < 5 by omega) (show 0 ≤ y ∧ y < 5 by omega) h1
  have e82 : zfst S v x y nb 1082 = S 1082 := funext fun i => eo _ _ (by decide) (by decide) (by decide)
  unfold SP SC
  rw [f0, f1, f2, eo 1074 0 (by decide) (by decide) (by decide), eo 1074 1 (by decide) (by decide) (by decide), eo 1074 2 (by decide) (by decide) (by decide), eo 1074 3 (by decide) (by decide) (by decide), eo 1079 0 (by decide) (by decide) (by decide), eo 1079 1 (by decide) (by decide) (by decide), eo 1080 0 (by decide) (by decide) (by decide), eo 1081 0 (by decide) (by decide) (by decide), e82]
  refine ⟨⟨a1.1, a1.2.1, by omega⟩, a2, a3, g1, fun m p q => ?_, fun m p q => ?_, fun m u p q u0 u1 => ?_, a8, a9⟩
  · rw [eo _ _ (by decide) (by decide) (by decide)]; exact a5 m p q
  · rw [eo _ _ (by decide) (by decide) (by decide), eo _ _ (by decide) (by decide) (by decide)]; exact a6 m p q
  · rw [eo _ _ (by decide) (by decide) (by decide), eo _ _ (by decide) (by decide) (by decide), eo _ _ (by decide) (by decide) (by decide), eo _ _ (by decide) (by decide) (by decide)]; exact a7 m u p q u0 u1
theorem SP_h (hS : SP S) (hl : (cs.length : Int) ≤ 1600) (ht : ztl true cs [] = some [false]) : SP (zhst S cs) := by
  obtain ⟨a1, a2, a3, a4, a5, a6, a7, a8, a9⟩ := hS
  have eo : ∀ r i, r ≠ 1080 → r ≠ 1081 → r ≠ 1082 → zhst S cs r i = S r i := fun r i p q u => by
    unfold zhst; rw [if_neg (fun z => p z.1), if_neg (fun z => q z.1), if_neg (fun z => u z.1)]
  have e0 : zhst S cs 1080 0 = 0 := rfl
  have e1 : zhst S cs 1081 0 = cs.length := rfl
  have g1 : SRg (zhst S cs) := SRg_c a4 (fun r i p q u => eo r i (by omega) (by omega) (by omega))
  have e2 : zcl (zhst S cs 1082) cs.length 0 = cs := by
    rw [zcl_c (g := zlf cs) _ _ (fun i a b => ?_)]
    · exact zcl_l cs []
    · unfold zhst; rw [if_neg (by omega), if_neg (by omega), if_pos (by omega)]
  unfold SP SC
  rw [eo 1072 0 (by decide) (by decide) (by decide), eo 1072 1 (by decide) (by decide) (by decide), eo 1072 2 (by decide) (by decide) (by decide), eo 1074 0 (by decide) (by decide) (by decide), eo 1074 1 (by decide) (by decide) (by decide), eo 1074 2 (by decide) (by decide) (by decide), eo 1074 3 (by decide) (by decide) (by decide), eo 1079 0 (by decide) (by decide) (by decide), eo 1079 1 (by decide) (by decide) (by decide), e0, e1]
  refine ⟨a1, a2, a3, g1, fun m p q => ?_, fun m p q => ?_, fun m u p q u0 u1 => ?_, a8, Or.inr ⟨rfl, by omega, ?_⟩⟩
  · rw [eo _ _ (by decide) (by decide) (by decide)]; exact a5 m p q
  · rw [eo _ _ (by decide) (by decide) (by decide), eo _ _ (by decide) (by decide) (by decide)]; exact a6 m p q
  · rw [eo _ _ (by decide) (by decide) (by decide), eo _ _ (by decide) (by decide) (by decide), eo _ _ (by decide) (by decide) (by decide), eo _ _ (by decide) (by decide) (by decide)]; exact a7 m u p q u0 u1
  · rw [show ((cs.length : Int)).toNat = cs.length by simp, e2]; exact ht
theorem SP_s {i : Int} (hS : SP S) (hi : (i = 0 ∧ 0 ≤ v ∧ v ≤ 99) ∨ (i = 1 ∧ 0 ≤ v ∧ v ≤ 100)) : SP (zw S 1079 i v) := by
  obtain ⟨a1, a2, a3, a4, a5, a6, a7, a8, a9⟩ := hS
  have eo : ∀ r j, r ≠ 1079 → zw S 1079 i v r j = S r j := fun r j p => zw_o p
  have g1 : SRg (zw S 1079 i v) := SRg_c a4 (fun r i p q u => eo r i (by omega))
  have e82 : zw S 1079 i v 1082 = S 1082 := funext fun j => eo _ _ (by decide)
  unfold SP SC
  rw [eo 1072 0 (by decide), eo 1072 1 (by decide), eo 1072 2 (by decide), eo 1074 0 (by decide), eo 1074 1 (by decide), eo 1074 2 (by decide), eo 1074 3 (by decide), eo 1080 0 (by decide), eo 1081 0 (by decide), e82, zw_i, zw_i]
  refine ⟨a1, a2, a3, g1, fun m p q => ?_, fun m p q => ?_, fun m u p q u0 u1 => ?_, ?_, a9⟩
  · rw [eo _ _ (by decide)]; exact a5 m p q
  · rw [eo _ _ (by decide), eo _ _ (by decide)]; exact a6 m p q
  · rw [eo _ _ (by decide), eo _ _ (by decide), eo _ _ (by decide), eo _ _ (by decide)]; exact a7 m u p q u0 u1
  · rcases hi with q | q
    · rw [if_pos q.1.symm, if_neg (by omega)]; omega
    · rw [if_neg (by omega), if_pos q.1.symm]; omega
theorem zstb_P {k' : Int} {S' : Int → Int → Int} (hS : SP S) (h0 : 0 ≤ k) (h1 : k ≤ n) (hn : n ≤ 1600) (e : zstb t n S k = .inr (k', S')) : SP S' := by
  unfold zstb at e
  split at e
  · rename_i g
    have hw := (zhw_r h1 g).1
    simp only [List.length_cons, List.length_nil] at hw
    obtain ⟨g5, q, v, wy, re, wo, cr, e1, e2, b1, b2, b3, b4⟩ := zkb_i (by omega) (by omega) e
    rw [e2]; exact SP_k hS g5 (znew_v (by omega) (by omega) e1) b1 b2 b3 b4
  · split at e
    · rename_i g
      have hw := (zhw_r h1 g).1
      simp only [List.length_cons, List.length_nil] at hw
      obtain ⟨g5, q, v, u, sd, x, y, e1, e2, b1, b2, b3, b4, b5⟩ := zmb_i e
      have c0 := hS.1.1
      have hz := zfind_b (S := S) (a := 0) (v := u) _ 0 (by omega) b1
      rw [e2]; exact SP_m hS g5 (znew_v (by omega) (by omega) e1) ⟨by omega, by omega⟩ b2 b3 b4 b5
    · split at e
      · rename_i g
        have hw := (zhw_r h1 g).1
        simp only [List.length_cons, List.length_nil] at hw
        obtain ⟨g5, q, v, x, y, nb, e1, e2, b1, b2, b3⟩ := zfb2_i e
        rw [e2]; exact SP_f hS g5 (znew_v (by omega) (by omega) e1) b1 b2 b3
      · split at e
        · rename_i g
          have hw := (zhw_r h1 g).1
          simp only [List.length_cons, List.length_nil] at hw
          unfold zhb at e
          split at e
          · cases e
          · cases e1 : zex true t n (zF n) 0 (k + 4) 0 with
            | inl x => rw [e1] at e; cases e
            | inr x =>
              obtain ⟨k1, c⟩ := x
              have pr := (zex_pr (hm := true) (t := t) (n := n) (zF n) 0 (k + 4) 0 (by omega) (by omega) (by omega) (by omega)).1 k1 c e1
              have ty := (zex_ty _ _ _ _ _ _ (by omega) (by omega) e1).1 (by omega) []
              rw [e1] at e
              simp only [Sum.inr.injEq, Prod.mk.injEq] at e
              rw [← e.2]; exact SP_h hS (by omega) ty
        · split at e
          · obtain ⟨q, e1, e⟩ := zth_r e
            simp only [Sum.inr.injEq, Prod.mk.injEq] at e
            rw [← e.2]; exact SP_s hS (Or.inl ⟨rfl, znum_v e1⟩)
          · obtain ⟨k2, e1, e⟩ := zth_r e
            obtain ⟨q, e2, e⟩ := zth_r e
            simp only [Sum.inr.injEq, Prod.mk.injEq] at e
            rw [← e.2]; exact SP_s hS (Or.inr ⟨rfl, znum_v e2⟩)
end INV2
