/-! ===== what a board that is read obeys ===== -/
def SRg (S : Int → Int → Int) : Prop :=
  (∀ m, 0 ≤ m → m < 8 → (0 ≤ S 1076 (2 * m) ∧ S 1076 (2 * m) < 5) ∧ (S 1076 (2 * m + 1) = 0 ∨ S 1076 (2 * m + 1) = 1))
  ∧ (∀ k, 0 ≤ k → k < 5 → (0 ≤ S 1075 (4 * k) ∧ S 1075 (4 * k) ≤ 4) ∧ (0 ≤ S 1075 (4 * k + 1) ∧ S 1075 (4 * k + 1) ≤ 4) ∧ (0 ≤ S 1075 (4 * k + 2) ∧ S 1075 (4 * k + 2) ≤ 99) ∧ (S 1075 (4 * k + 3) = 0 ∨ S 1075 (4 * k + 3) = 1))
  ∧ (∀ f, 0 ≤ f → f < 6 → (0 ≤ S 1078 (3 * f) ∧ S 1078 (3 * f) < 5) ∧ (0 ≤ S 1078 (3 * f + 1) ∧ S 1078 (3 * f + 1) < 5) ∧ (0 ≤ S 1078 (3 * f + 2) ∧ S 1078 (3 * f + 2) ≤ 999))
  ∧ (∀ i, 0 ≤ i → i < 24 → 0 ≤ S 1073 i ∧ S 1073 i < 387420489)
  ∧ (∀ i, 0 ≤ i → i < 16 → 0 ≤ S 1077 i ∧ S 1077 i < 5)
def SP (S : Int → Int → Int) : Prop := SC S ∧ ((2 ≤ S 1074 0 ∧ S 1074 0 ≤ 5) ∧ (2 ≤ S 1074 1 ∧ S 1074 1 ≤ 5)) ∧ ((1 ≤ S 1074 2 ∧ S 1074 2 ≤ 2) ∧ (1 ≤ S 1074 3 ∧ S 1074 3 ≤ 2)) ∧ SRg S
  ∧ (∀ m, 0 ≤ m → m < S 1072 1 → S 1076 (2 * m) < S 1072 0)
  ∧ (∀ m, 0 ≤ m → m < S 1072 1 → S 1077 (2 * m) < S 1074 0 ∧ S 1077 (2 * m + 1) < S 1074 1)
  ∧ (∀ m q, 0 ≤ m → m < S 1072 1 → 0 ≤ q → q < m → ¬ (S 1077 (2 * m) = S 1077 (2 * q) ∧ S 1077 (2 * m + 1) = S 1077 (2 * q + 1)))
  ∧ ((0 ≤ S 1079 0 ∧ S 1079 0 ≤ 99) ∧ (0 ≤ S 1079 1 ∧ S 1079 1 ≤ 100))
  ∧ (S 1080 0 = -1 ∨ (S 1080 0 = 0 ∧ (0 ≤ S 1081 0 ∧ S 1081 0 ≤ 1600) ∧ ztl true (zcl (S 1082) (S 1081 0).toNat 0) [] = some [false]))
section INV
variable {d : Nat} {h h0 : AH} {Q : QQ} {x y z m k s l w a b c v n p r o lo hi bg : Int} {S : Int → Int → Int} {t : Int → Int} {cs : List Int}
set_option maxHeartbeats 4000000
theorem zw_o {r' i' : Int} (hr : r' ≠ r) : zw S r k v r' i' = S r' i' := by unfold zw; rw [if_neg (fun q => hr q.1)]
theorem zcdd_k {e : Int} : zcdd (zkst S v a b c e) = zcdd S := by
  unfold zcdd zkst zadd; repeat rw [zw_o (by decide)]
theorem zcdd_m {e : Int} : zcdd (zmst S v a b c e) = zcdd S := by
  unfold zcdd zmst zadd; repeat rw [zw_o (by decide)]
theorem zcdd_f : zcdd (zfst S v a b c) = zcdd S := by
  unfold zcdd zfst zadd; repeat rw [zw_o (by decide)]
theorem zcdd_s : zcdd (zw S 1079 a v) = zcdd S := by
  unfold zcdd; repeat rw [zw_o (by decide)]
theorem zth_r {α β : Type} {r : (Int × Int) ⊕ α} {f : α → (Int × Int) ⊕ β} {b : β} (e : zth r f = .inr b) : ∃ a, r = .inr a ∧ f a = .inr b := by
  unfold zth at e
  cases r with
  | inl x => cases e
  | inr x => exact ⟨x, rfl, e⟩
theorem zask1_r {W : List Int} {k' : Int} (e : zask1 t n k W = .inr k') : zhw t n (zsk t n k) W = true ∧ k' = zsk t n k + W.length := by
  unfold zask1 at e; split at e
  · injection e with e; exact ⟨by assumption, e.symm⟩
  · cases e
/-- a kind that is told -/
theorem zkb_i {k' : Int} {S' : Int → Int → Int} (h0 : 0 ≤ k) (h1 : k ≤ n) (e : zkb t n S k bg = .inr (k', S')) : S 1072 0 ≠ 5 ∧ ∃ q v wy re wo cr, znew t n S k = .inr (q, v) ∧ S' = zkst S v wy re wo cr ∧ (1 ≤ wy ∧ wy ≤ 4) ∧ (1 ≤ re ∧ re ≤ 4) ∧ (0 ≤ wo ∧ wo ≤ 99) ∧ (cr = 0 ∨ cr = 1) := by
  unfold zkb at e
  split at e
  · cases e
  · rename_i g
    refine ⟨g, ?_⟩
    obtain ⟨q, e1, e⟩ := zth_r e
    obtain ⟨k2, e2, e⟩ := zth_r e
    obtain ⟨wy, e3, e⟩ := zth_r e
    obtain ⟨k3, e4, e⟩ := zth_r e
    obtain ⟨re, e5, e⟩ := zth_r e
    obtain ⟨k4, e6, e⟩ := zth_r e
    obtain ⟨wo, e7, e⟩ := zth_r e
    simp only [Sum.inr.injEq, Prod.mk.injEq] at e
    have num : ∀ {kk lo hi : Int} {q : Int × Int}, znum t n kk lo hi = .inr q → lo ≤ q.2 ∧ q.2 ≤ hi := by
      intro kk lo hi q e
      unfold znum at e
      split at e
      · split at e
        · cases e
        · split at e
          · injection e with e; rw [← e]; assumption
          · cases e
      · cases e
    refine ⟨q.1, q.2, wy.2, re.2, wo.2, _, e1, e.2.symm, num e3, num e5, num e7, ?_⟩
    cases zhw t n (zsk t n wo.1) [99, 114, 111, 119, 110]
    · exact Or.inl rfl
    · exact Or.inr rfl
theorem znum_v {lo hi : Int} {q : Int × Int} (e : znum t n k lo hi = .inr q) : lo ≤ q.2 ∧ q.2 ≤ hi := by
  unfold znum at e
  split at e
  · split at e
    · cases e
    · split at e
      · injection e with e; rw [← e]; assumption
      · cases e
  · cases e
theorem zplc_i {q : Int × Int × Int × Int} (e : zplc t n S k = .inr q) : (0 ≤ q.2.1 ∧ q.2.1 ≤ S 1074 0 - 1) ∧ (0 ≤ q.2.2.1 ∧ q.2.2.1 ≤ S 1074 1 - 1) := by
  unfold zplc at e
  obtain ⟨x, e1, e⟩ := zth_r e
  obtain ⟨y, e2, e⟩ := zth_r e
  injection e with e
  rw [← e]
  exact ⟨znum_v e1, znum_v e2⟩
theorem zmb_i {k' : Int} {S' : Int → Int → Int} (e : zmb t n S k bg = .inr (k', S')) : S 1072 1 ≠ 8 ∧ ∃ q v u sd x y, znew t n S k = .inr (q, v) ∧ S' = zmst S v (zfind S 0 u (S 1072 0).toNat 0) sd x y ∧ zfind S 0 u (S 1072 0).toNat 0 ≠ -1 ∧ (0 ≤ sd ∧ sd ≤ 1) ∧ (0 ≤ x ∧ x ≤ S 1074 0 - 1) ∧ (0 ≤ y ∧ y ≤ S 1074 1 - 1) ∧ zdupm S x y (S 1072 1).toNat 0 = false := by
  unfold zmb at e
  split at e
  · cases e
  · rename_i g
    refine ⟨g, ?_⟩
    obtain ⟨q, e1, e⟩ := zth_r e
    obtain ⟨k2, e2, e⟩ := zth_r e
    obtain ⟨w, e3, e⟩ := zth_r e
    split at e
    · cases e
    rename_i g2
    obtain ⟨k3, e4, e⟩ := zth_r e
    obtain ⟨sd, e5, e⟩ := zth_r e
    obtain ⟨k4, e6, e⟩ := zth_r e
    obtain ⟨xy, e7, e⟩ := zth_r e
    split at e
    · cases e
    rename_i g3
    simp only [Sum.inr.injEq, Prod.mk.injEq] at e
    have hp := zplc_i e7
    exact ⟨q.1, q.2, w.2, sd.2, xy.2.1, xy.2.2.1, e1, e.2.symm, g2, znum_v e5, hp.1, hp.2, by simpa using g3⟩
theorem zfb2_i {k' : Int} {S' : Int → Int → Int} (e : zfb2 t n S k bg = .inr (k', S')) : S 1072 2 ≠ 6 ∧ ∃ q v x y nb, znew t n S k = .inr (q, v) ∧ S' = zfst S v x y nb ∧ (0 ≤ x ∧ x ≤ S 1074 0 - 1) ∧ (0 ≤ y ∧ y ≤ S 1074 1 - 1) ∧ (1 ≤ nb ∧ nb ≤ 999) := by
  unfold zfb2 at e
  split at e
  · cases e
  · rename_i g
    refine ⟨g, ?_⟩
    obtain ⟨q, e1, e⟩ := zth_r e
    obtain ⟨k2, e2, e⟩ := zth_r e
    obtain ⟨xy, e3, e⟩ := zth_r e
    obtain ⟨k3, e4, e⟩ := zth_r e
    obtain ⟨nb, e5, e⟩ := zth_r e
    simp only [Sum.inr.injEq, Prod.mk.injEq] at e
    have hp := zplc_i e3
    exact ⟨q.1, q.2, xy.2.1, xy.2.2.1, nb.2, e1, e.2.symm, hp.1, hp.2, znum_v e5⟩
theorem zkb_c {k' : Int} {S' : Int → Int → Int} (h0 : 0 ≤ k) (h1 : k ≤ n) (e : zkb t n S k bg = .inr (k', S')) : zcdd S' = zcdd S := by
  obtain ⟨_, q, v, wy, re, wo, cr, _, e2, _⟩ := zkb_i h0 h1 e
  rw [e2]; exact zcdd_k
theorem zmb_c {k' : Int} {S' : Int → Int → Int} (e : zmb t n S k bg = .inr (k', S')) : zcdd S' = zcdd S := by
  obtain ⟨_, q, v, u, sd, x, y, _, e2, _⟩ := zmb_i e
  rw [e2]; exact zcdd_m
theorem zfb2_c {k' : Int} {S' : Int → Int → Int} (e : zfb2 t n S k bg = .inr (k', S')) : zcdd S' = zcdd S := by
  obtain ⟨_, q, v, x, y, nb, _, e2, _⟩ := zfb2_i e
  rw [e2]; exact zcdd_f
theorem zw_i {i' : Int} : zw S r k v r i' = if i' = k then v else S r i' := by unfold zw; simp
theorem znv_b (hL : ∀ q, p ≤ q → q < p + l → 97 ≤ t q ∧ t q ≤ 122) : ∀ (j : Nat) (q : Int) (u : Int) (i : Nat), p ≤ q → q + j ≤ p + l → 0 ≤ u → u < 27 ^ i → 0 ≤ znv t j q u ∧ znv t j q u < 27 ^ (i + j) := by
  intro j
  induction j with
  | zero => intro q u i h1 h2 u0 u1; exact ⟨u0, u1⟩
  | succ j ih =>
    intro q u i h1 h2 u0 u1
    have hb := hL q h1 (by omega)
    have h27 : (27 : Int) ^ (i + 1) = 27 * 27 ^ i := by rw [Int.pow_succ, Int.mul_comm]
    have := ih (q + 1) (27 * u + t q - 97 + 1) (i + 1) (by omega) (by omega) (by omega) (by rw [h27]; omega)
    rw [show i + (j + 1) = i + 1 + j by omega]
    exact this
theorem zname_v {q : Int × Int} (h0 : 0 ≤ k) (h1 : k ≤ n) (e : zname t n k = .inr q) : 0 ≤ q.2 ∧ q.2 < 387420489 := by
  have hs := @zsk_le k n t h1
  unfold zname at e
  split at e
  · split at e
    · cases e
    · rename_i g2
      injection e with e
      rw [← e]
      have hwl := @zwe_le (zsk t n k) n t hs.2
      have hL : ∀ u, zsk t n k ≤ u → u < zsk t n k + (zwe t n (zsk t n k) - zsk t n k) → 97 ≤ t u ∧ t u ≤ 122 := by
        intro u u0 u1
        have := zwf_L (t := t) (n := n) (n - zsk t n k).toNat (zsk t n k) u u0 (by have : zwf t n (n - zsk t n k).toNat (zsk t n k) = zwe t n (zsk t n k) := rfl; omega)
        rw [zB_i (by omega) (by omega)] at this
        exact of_decide_eq_true this
      have hb := znv_b hL (zwe t n (zsk t n k) - zsk t n k).toNat (zsk t n k) 0 0 (by omega) (by omega) (by omega) (by decide)
      refine ⟨hb.1, ?_⟩
      have h6 : (zwe t n (zsk t n k) - zsk t n k).toNat ≤ 6 := by omega
      generalize (zwe t n (zsk t n k) - zsk t n k).toNat = j at *
      have : (27 : Int) ^ (0 + j) ≤ 387420489 := by
        have : j = 0 ∨ j = 1 ∨ j = 2 ∨ j = 3 ∨ j = 4 ∨ j = 5 ∨ j = 6 := by omega
        rcases this with e | e | e | e | e | e | e <;> subst e <;> decide
      exact Int.lt_of_lt_of_le hb.2 this
  · cases e
theorem znew_v {q v : Int} (h0 : 0 ≤ k) (h1 : k ≤ n) (e : znew t n S k = .inr (q, v)) : 0 ≤ v ∧ v < 387420489 := by
  unfold znew at e
  obtain ⟨a, e1, e⟩ := zth_r e
  have := zname_v h0 h1 e1
  split at e
  · cases e
  · injection e with e; rw [e] at this; exact this
theorem SRg_k {wy re wo cr : Int} (hS : SRg S) (hc : 0 ≤ S 1072 0 ∧ S 1072 0 < 5) (hv : 0 ≤ v ∧ v < 387420489) (h1 : 1 ≤ wy ∧ wy ≤ 4) (h2 : 1 ≤ re ∧ re ≤ 4) (h3 : 0 ≤ wo ∧ wo ≤ 99) (h4 : cr = 0 ∨ cr = 1) : SRg (zkst S v wy re wo cr) := by
  unfold zkst zadd
  refine ⟨fun m a b => ?_, fun q a b => ?_, fun f a b => ?_, fun i a b => ?_, fun i a b => ?_⟩
  · simp only [zw_o (S := _) (show (1076 : Int) ≠ 1075 by decide), zw_o (S := _) (show (1076 : Int) ≠ 1072 by decide), zw_o (S := _) (show (1076 : Int) ≠ 1073 by decide)]
    exact hS.1 m a b
  · have := hS.2.1 q a b
    simp only [zw_i, zw_o (S := _) (show (1075 : Int) ≠ 1072 by decide), zw_o (S := _) (show (1075 : Int) ≠ 1073 by decide)]
    refine ⟨?_, ?_, ?_, ?_⟩ <;> (repeat' split) <;> omega
  · simp only [zw_o (S := _) (show (1078 : Int) ≠ 1075 by decide), zw_o (S := _) (show (1078 : Int) ≠ 1072 by decide), zw_o (S := _) (show (1078 : Int) ≠ 1073 by decide)]
    exact hS.2.2.1 f a b
  · have := hS.2.2.2.1 i a b
    simp only [zw_o (S := _) (show (1073 : Int) ≠ 1075 by decide), zw_o (S := _) (show (1073 : Int) ≠ 1072 by decide), zw_i]
    split <;> omega
  · simp only [zw_o (S := _) (show (1077 : Int) ≠ 1075 by decide), zw_o (S := _) (show (1077 : Int) ≠ 1072 by decide), zw_o (S := _) (show (1077 : Int) ≠ 1073 by decide)]
    exact hS.2.2.2.2 i a b
theorem SRg_m {kd sd : Int} (hS : SRg S) (hc : 0 ≤ S 1072 1 ∧ S 1072 1 < 8) (hv : 0 ≤ v ∧ v < 387420489) (h1 : 0 ≤ kd ∧ kd < 5) (h2 : 0 ≤ sd ∧ sd ≤ 1) (h3 : 0 ≤ x ∧ x < 5) (h4 : 0 ≤ y ∧ y < 5) : SRg (zmst S v kd sd x y) := by
  unfold zmst zadd
  refine ⟨fun m a b => ?_, fun q a b => ?_, fun f a b => ?_, fun i a b => ?_, fun i a b => ?_⟩
  · have := hS.1 m a b
    simp only [zw_o (S := _) (show (1076 : Int) ≠ 1077 by decide), zw_i, zw_o (S := _) (show (1076 : Int) ≠ 1072 by decide), zw_o (S := _) (show (1076 : Int) ≠ 1073 by decide)]
    refine ⟨?_, ?_⟩ <;> (repeat' split) <;> omega
  · simp only [zw_o (S := _) (show (1075 : Int) ≠ 1077 by decide), zw_o (S := _) (show (1075 : Int) ≠ 1076 by decide), zw_o (S := _) (show (1075 : Int) ≠ 1072 by decide), zw_o (S := _) (show (1075 : Int) ≠ 1073 by decide)]
    exact hS.2.1 q a b
  · simp only [zw_o (S := _) (show (1078 : Int) ≠ 1077 by decide), zw_o (S := _) (show (1078 : Int) ≠ 1076 by decide), zw_o (S := _) (show (1078 : Int) ≠ 1072 by decide), zw_o (S := _) (show (1078 : Int) ≠ 1073 by decide)]
    exact hS.2.2.1 f a b
  · have := hS.2.2.2.1 i a b
    simp only [zw_o (S := _) (show (1073 : Int) ≠ 1077 by decide), zw_o (S := _) (show (1073 : Int) ≠ 1076 by decide), zw_o (S := _) (show (1073 : Int) ≠ 1072 by decide), zw_i]
    split <;> omega
  · have := hS.2.2.2.2 i a b
    simp only [zw_i, zw_o (S := _) (show (1077 : Int) ≠ 1076 by decide), zw_o (S := _) (show (1077 : Int) ≠ 1072 by decide), zw_o (S := _) (show (1077 : Int) ≠ 1073 by decide)]
    repeat' split
    all_goals omega
theorem SRg_f {nb : Int} (hS : SRg S) (hc : 0 ≤ S 1072 2 ∧ S 1072 2 < 6) (hv : 0 ≤ v ∧ v < 387420489) (h3 : 0 ≤ x ∧ x < 5) (h4 : 0 ≤ y ∧ y < 5) (h1 : 1 ≤ nb ∧ nb ≤ 999) : SRg (zfst S v x y nb) := by
  unfold zfst zadd
  refine ⟨fun m a b => ?_, fun q a b => ?_, fun f a b => ?_, fun i a b => ?_, fun i a b => ?_⟩
  · simp only [zw_o (S := _) (show (1076 : Int) ≠ 1078 by decide), zw_o (S := _) (show (1076 : Int) ≠ 1072 by decide), zw_o (S := _) (show (1076 : Int) ≠ 1073 by decide)]
    exact hS.1 m a b
  · simp only [zw_o (S := _) (show (1075 : Int) ≠ 1078 by decide), zw_o (S := _) (show (1075 : Int) ≠ 1072 by decide), zw_o (S := _) (show (1075 : Int) ≠ 1073 by decide)]
    exact hS.2.1 q a b
  · have := hS.2.2.1 f a b
    simp only [zw_i, zw_o (S := _) (show (1078 : Int) ≠ 1072 by decide), zw_o (S := _) (show (1078 : Int) ≠ 1073 by decide)]
    refine ⟨?_, ?_, ?_⟩ <;> (repeat' split) <;> omega
  · have := hS.2.2.2.1 i a b
    simp only [zw_o (S := _) (show (1073 : Int) ≠ 1078 by decide), zw_o (S := _) (show (1073 : Int) ≠ 1072 by decide), zw_i]
    split <;> omega
  · simp only [zw_o (S := _) (show (1077 : Int) ≠ 1078 by decide), zw_o (S := _) (show (1077 : Int) ≠ 1072 by decide), zw_o (S := _) (show (1077 : Int) ≠ 1073 by decide)]
    exact hS.2.2.2.2 i a b
theorem SRg_c {S' : Int → Int → Int} (hS : SRg S) (e : ∀ r i, 1073 ≤ r → r ≤ 1078 → r ≠ 1074 → S' r i = S r i) : SRg S' := by
  unfold SRg
  simp only [e 1076 _ (by decide) (by decide) (by decide), e 1075 _ (by decide) (by decide) (by decide), e 1078 _ (by decide) (by decide) (by decide), e 1073 _ (by decide) (by decide) (by decide), e 1077 _ (by decide) (by decide) (by decide)]
  exact hS
end INV
