/-! ===== rows that tell the same game ===== -/
def NE (nw nw' : Int → Int) : Prop := ∀ i, 0 ≤ i → i < 24 → nw' i = nw i
section Z1
variable {d : Nat} {x y z m k s l w a b v n p r o i f D0 D1 th : Int} {S T T' : Int → Int → Int} {t nw nw' g : Int → Int} {c : Int × Int × Int}
set_option maxHeartbeats 4000000
theorem NE_2 (hE : NE nw nw') : ∀ i, 2 ≤ i → i < 18 → nw' i = nw i := fun i a b => hE i (by omega) (by omega)
theorem NE_rfl : NE nw nw := fun _ _ _ => rfl
theorem zway_c {u : Nat} {dx dy : Int} (hE : NE nw nw') (hu : u ≤ 8) : ∀ (j : Nat) (a b : Int), zway nw' u dx dy j a b = zway nw u dx dy j a b := by
  intro j
  induction j with
  | zero => intro a b; rfl
  | succ j ih => intro a b; simp only [zway]; rw [zman_c (NE_2 hE) u 0 (by omega) (by omega), ih]
theorem zgo_c {u : Nat} {mn kn : Int → Int} (hE : NE nw nw') (hu : u ≤ 8) (m0 : 0 ≤ m) (m1 : m < 8) : zgo nw' mn kn u x y m = zgo nw mn kn u x y m := by
  unfold zgo zfits zfree
  rw [hE (2 + 2 * m) (by omega) (by omega), hE (3 + 2 * m) (by omega) (by omega), zman_c (NE_2 hE) u 0 (by omega) (by omega), zway_c hE hu]
theorem zG_c (n8 : 0 ≤ T 1072 4 ∧ T 1072 4 ≤ 8) (hE : NE nw nw') (m0 : 0 ≤ m) (m1 : m < 8) : zG T nw' m k = zG T nw m k := zgo_c hE (by omega) m0 m1
theorem zmk_c (n8 : 0 ≤ T 1072 4 ∧ T 1072 4 ≤ 8) (hE : NE nw nw') (m0 : 0 ≤ m) (m1 : m < 8) : ∀ (j : Nat) (k : Int), zmk T nw' m j k = zmk T nw m j k := by
  intro j
  induction j with
  | zero => intro k; rfl
  | succ j ih => intro k; simp only [zmk]; rw [zG_c n8 hE m0 m1, ih]
theorem zmm_c (n8 : 0 ≤ T 1072 4 ∧ T 1072 4 ≤ 8) (hE : NE nw nw') : ∀ (j : Nat) (m : Int), 0 ≤ m → m + j ≤ 8 → zmm T nw' s j m = zmm T nw s j m := by
  intro j
  induction j with
  | zero => intro m _ _; rfl
  | succ j ih => intro m m0 m1; simp only [zmm]; rw [zmk_c n8 hE m0 (by omega), ih (m + 1) (by omega) (by omega)]
theorem zmv_c (n8 : 0 ≤ T 1072 4 ∧ T 1072 4 ≤ 8) (hE : NE nw nw') : zmv T nw' = zmv T nw := by
  unfold zmv; rw [hE 1 (by omega) (by omega), zmm_c n8 hE _ _ (by omega) (by unfold zn; omega)]
theorem zct_c (hE : NE nw nw') : ∀ (j : Nat) (m : Int), 0 ≤ m → m + j ≤ 8 → zct T nw' j m = zct T nw j m := by
  intro j
  induction j with
  | zero => intro m _ _; rfl
  | succ j ih => intro m m0 m1; simp only [zct]; rw [hE (2 + 2 * m) (by omega) (by omega), ih (m + 1) (by omega) (by omega)]
theorem zcr_c (n8 : 0 ≤ T 1072 4 ∧ T 1072 4 ≤ 8) (hE : NE nw nw') : zcr T nw' = zcr T nw := zct_c hE _ _ (by omega) (by unfold zn; omega)
theorem zbl_c (hE : NE nw nw') : ∀ (j : Nat) (m a : Int), 0 ≤ m → m + j ≤ 8 → zbl T nw' s j m a = zbl T nw s j m a := by
  intro j
  induction j with
  | zero => intro m a _ _; rfl
  | succ j ih => intro m a m0 m1; simp only [zbl]; rw [hE (2 + 2 * m) (by omega) (by omega), ih (m + 1) _ (by omega) (by omega)]
theorem zbal_c (n8 : 0 ≤ T 1072 4 ∧ T 1072 4 ≤ 8) (hE : NE nw nw') : zbal T nw' s = zbal T nw s := zbl_c hE _ _ _ (by omega) (by unfold zn; omega)
theorem zc1_c (n8 : 0 ≤ T 1072 4 ∧ T 1072 4 ≤ 8) (hE : NE nw nw') : ∀ (j : Nat) (m : Int), 0 ≤ m → m + j ≤ 8 → zc1 T nw' s k j m = zc1 T nw s k j m := by
  intro j
  induction j with
  | zero => intro m _ _; rfl
  | succ j ih => intro m m0 m1; simp only [zc1]; rw [zG_c n8 hE m0 (by omega), ih (m + 1) (by omega) (by omega)]
theorem zc2_c (n8 : 0 ≤ T 1072 4 ∧ T 1072 4 ≤ 8) (hE : NE nw nw') : ∀ (j : Nat) (m : Int), 0 ≤ m → m + j ≤ 8 → zc2 T nw' s j m = zc2 T nw s j m := by
  intro j
  induction j with
  | zero => intro m _ _; rfl
  | succ j ih => intro m m0 m1; simp only [zc2]; rw [hE (2 + 2 * m) (by omega) (by omega), hE (3 + 2 * m) (by omega) (by omega), zc1_c n8 hE _ _ (by omega) (by unfold zn; omega), ih (m + 1) (by omega) (by omega)]
theorem zchk_c (n8 : 0 ≤ T 1072 4 ∧ T 1072 4 ≤ 8) (hE : NE nw nw') : zchk T nw' s = zchk T nw s := zc2_c n8 hE _ _ (by omega) (by unfold zn; omega)
theorem NE_do (n8 : 0 ≤ T 1072 4 ∧ T 1072 4 ≤ 8) (hE : NE nw nw') : NE (zdo T nw m k) (zdo T nw' m k) := by
  intro i i0 i1
  unfold zdo
  rw [hE i i0 i1, hE 1 (by omega) (by omega), zat_c n8 (NE_2 hE)]
theorem zval_c (n8 : 0 ≤ T 1072 4 ∧ T 1072 4 ≤ 8) : ∀ (j : Nat) (nw nw' : Int → Int), NE nw nw' → zval T j nw' = zval T j nw := by
  intro j
  induction j with
  | zero => intro nw nw' hE; simp only [zval]; rw [hE 1 (by omega) (by omega), zbal_c n8 hE]
  | succ j ih =>
    intro nw nw' hE
    simp only [zval]
    have : (fun x : Int × Int => -zval T j (zdo T nw' x.1 x.2)) = fun x => -zval T j (zdo T nw x.1 x.2) := funext fun x => by rw [ih _ _ (NE_do n8 hE)]
    rw [this, hE 1 (by omega) (by omega), zbal_c n8 hE, zcr_c n8 hE, zmv_c n8 hE]
theorem zbe_c {j : Nat} (n8 : 0 ≤ T 1072 4 ∧ T 1072 4 ≤ 8) (hE : NE nw nw') : zbe T nw' j a b = zbe T nw j a b := by
  unfold zbe
  have : (fun x : Int × Int => -zval T j (zdo T nw' x.1 x.2)) = fun x => -zval T j (zdo T nw x.1 x.2) := funext fun x => by rw [zval_c n8 j _ _ (NE_do n8 hE)]
  rw [this, zcr_c n8 hE, zmv_c n8 hE]
theorem zto_c (n8 : 0 ≤ T 1072 4 ∧ T 1072 4 ≤ 8) (hE : NE nw nw') : zto T D0 D1 nw' = zto T D0 D1 nw := by
  unfold zto; rw [hE 1 (by omega) (by omega), zbe_c n8 hE]
theorem zpc_c (n8 : 0 ≤ T 1072 4 ∧ T 1072 4 ≤ 8) (hE : NE nw nw') : zpc T nw' w a b = zpc T nw w a b := by
  unfold zpc; rw [zcr_c n8 hE, zmv_c n8 hE]
theorem zall_c (n8 : 0 ≤ T 1072 4 ∧ T 1072 4 ≤ 8) (hE : NE nw nw') : zall T nw' = zall T nw := by
  unfold zall; rw [zcr_c n8 hE, zmv_c n8 hE]
theorem ztk_c (n8 : 0 ≤ T 1072 4 ∧ T 1072 4 ≤ 8) (hE : NE nw nw') : ztk T nw' p = ztk T nw p := by unfold ztk; rw [zat_c n8 (NE_2 hE)]
theorem zck_c (n8 : 0 ≤ T 1072 4 ∧ T 1072 4 ≤ 8) (hE : NE nw nw') : zck T nw' m p = zck T nw m p := by
  unfold zck
  have hE' := NE_do (m := m) (k := p) n8 hE
  rw [hE' 1 (by omega) (by omega), zchk_c n8 hE']
theorem NE_ph (n8 : 0 ≤ T 1072 4 ∧ T 1072 4 ≤ 8) (hE : NE nw nw') : NE (zph T nw m p) (zph T nw' m p) := by
  intro i i0 i1
  have hE' := NE_do (m := m) (k := p) n8 hE
  unfold zph zhf
  rw [ztk_c n8 hE, zck_c n8 hE, hE 0 (by omega) (by omega), hE' i i0 i1]
theorem NE_dy (n8 : 0 ≤ T 1072 4 ∧ T 1072 4 ≤ 8) (n6 : 0 ≤ T 1072 5 ∧ T 1072 5 ≤ 6) (hE : NE nw nw') (h24 : 0 ≤ nw' 24) (hX : NX T nw') (hc : zcv T c) : NE (zdy T nw 1 c) (zdy T nw' 0 c) := by
  have fin : ∀ r r' : Int → Int, NE r r' → NE (znx (zgr T (T 1072 5) r)) (znx (zgr T (T 1072 5) r')) := by
    intro r r' e i i0 i1
    unfold znx zgr
    rw [e i i0 i1, e 0 (by omega) (by omega)]
  unfold zdy
  by_cases g : c.1 = -1
  · rw [if_pos g, if_pos g]
    refine fin _ _ (fun i i0 i1 => ?_)
    unfold zfs; rw [hE i i0 i1, hE 1 (by omega) (by omega)]
  · rw [if_neg g, if_neg g]
    rcases hc with q | hc
    · exact absurd q g
    refine fin _ _ (fun i i0 i1 => ?_)
    unfold zpy
    rw [if_pos rfl, if_neg (by decide)]
    have e24 : zph T nw' c.2.1 c.2.2 24 = nw' 24 := by
      unfold zph zhf; rw [if_neg (by omega), zdo_r hX hc.2.1 hc.2.2.1 (by omega)]
    rw [zkp_lo (by rw [e24]; exact h24) i1]
    exact NE_ph n8 hE i i0 i1
theorem NE_ds (n8 : 0 ≤ T 1072 4 ∧ T 1072 4 ≤ 8) (n6 : 0 ≤ T 1072 5 ∧ T 1072 5 ≤ 6) : ∀ (j : Nat) (nw nw' : Int → Int), NE nw nw' → FV nw' → NX T nw' → nw' 0 + j ≤ 5000 → NE (zds T 1 D0 D1 j nw) (zds T 0 D0 D1 j nw') := by
  intro j
  induction j with
  | zero => intro nw nw' hE _ _ _; exact hE
  | succ j ih =>
    intro nw nw' hE hF hX hd
    simp only [zds]
    have hv : zcv T (zto T D0 D1 nw') := zcpk_v (NX_T hX) zbe_cp
    rw [← zto_c n8 hE]
    exact ih _ _ (NE_dy n8 n6 hE hF.2.2.1 hX hv) (FV_dy hX hF hv (by omega)) (NX_dy hX hF hv) (by rw [(zdy_i hX hF hv).1]; omega)
theorem zmo_c (hE : NE nw nw') : ∀ (j : Nat) (m a : Int), 0 ≤ m → m + j ≤ 8 → zmo T nw' s j m a = zmo T nw s j m a := by
  intro j
  induction j with
  | zero => intro m a _ _; rfl
  | succ j ih => intro m a m0 m1; simp only [zmo]; rw [hE (2 + 2 * m) (by omega) (by omega), ih (m + 1) _ (by omega) (by omega)]
theorem zmen_c (n8 : 0 ≤ T 1072 4 ∧ T 1072 4 ≤ 8) (hE : NE nw nw') : zmen T nw' s = zmen T nw s := zmo_c hE _ _ _ (by omega) (by unfold zn; omega)
theorem zbo_c (hE : NE nw nw') : ∀ (j : Nat) (m a : Int), 0 ≤ m → m + j ≤ 6 → zbo nw' j m a = zbo nw j m a := by
  intro j
  induction j with
  | zero => intro m a _ _; rfl
  | succ j ih => intro m a m0 m1; simp only [zbo]; rw [hE (18 + m) (by omega) (by omega), ih (m + 1) _ (by omega) (by omega)]
theorem zbea_c (n6 : 0 ≤ T 1072 5 ∧ T 1072 5 ≤ 6) (hE : NE nw nw') : zbea T nw' = zbea T nw := zbo_c hE _ _ _ (by omega) (by omega)
theorem zlat_c (n8 : 0 ≤ T 1072 4 ∧ T 1072 4 ≤ 8) (n6 : 0 ≤ T 1072 5 ∧ T 1072 5 ≤ 6) (hE : NE nw nw') : zlat T nw' w = zlat T nw w := by
  unfold zlat; rw [zmen_c n8 hE, zbea_c n6 hE, zcr_c n8 hE, zmv_c n8 hE]
end Z1
