/-! ===== sums as told: codes (printed by gen_82.py) ===== -/
/-- which word of a part is here -/
def zqw (hm : Bool) (t : Int → Int) (n p : Int) : Int := if zhw t n p [116, 97, 107, 101, 110] = true then 0 else if zhw t n p [99, 104, 101, 99, 107] = true then 1 else if zhw t n p [111, 102, 102] = true then (if hm = true then 2 else 11) else if zhw t n p [100, 97, 121] = true then 3 else if zhw t n p [110, 117, 109, 98, 101, 114] = true then 4 else if zhw t n p [99, 111, 108, 117, 109, 110] = true then 5 else if zhw t n p [114, 111, 119] = true then 6 else if zhw t n p [115, 105, 100, 101] = true then 7 else if zhw t n p [119, 111, 114, 116, 104] = true then 8 else if zhw t n p [114, 101, 97, 99, 104] = true then 9 else if zhw t n p [109, 111, 118, 101, 115] = true then 10 else -1
def zln (k : Int) : Int := if k = 0 then 5 else if k = 1 then 5 else if k = 2 then 3 else if k = 3 then 3 else if k = 4 then 6 else if k = 5 then 6 else if k = 6 then 3 else if k = 7 then 4 else if k = 8 then 5 else if k = 9 then 5 else if k = 10 then 5 else 3
def zal (hm : Bool) (k : Int) : Bool := if hm = true then decide (k < 4) else decide (2 < k)
def zmin : List Int := [109, 105, 110]
def zmax : List Int := [109, 97, 120]
/-- modes: 0 a sum, 1 a product, 2 an atom, 3 what follows a product in a sum, 4 what follows an atom in a product -/
def zex (hm : Bool) (t : Int → Int) (n : Int) : Nat → Int → Int → Int → (Int × Int) ⊕ (Int × List Int)
  | 0, _, _, _ => .inl (99, 0)
  | f + 1, md, k, o =>
    if md = 0 then (match zex hm t n f 1 k o with
      | .inl e => .inl e
      | .inr (k1, c1) => match zex hm t n f 3 k1 o with
        | .inl e => .inl e
        | .inr (k2, c2) => .inr (k2, c1 ++ c2))
    else if md = 1 then (match zex hm t n f 2 k o with
      | .inl e => .inl e
      | .inr (k1, c1) => match zex hm t n f 4 k1 o with
        | .inl e => .inl e
        | .inr (k2, c2) => .inr (k2, c1 ++ c2))
    else if md = 3 then (if zB t n (zsk t n k) = 43 ∨ zB t n (zsk t n k) = 45 then (match zex hm t n f 1 (zsk t n k + 1) o with
        | .inl e => .inl e
        | .inr (k1, c1) => match zex hm t n f 3 k1 o with
          | .inl e => .inl e
          | .inr (k2, c2) => .inr (k2, c1 ++ ((if zB t n (zsk t n k) = 43 then 1 else 2) :: c2)))
      else .inr (zsk t n k, []))
    else if md = 4 then (if zB t n (zsk t n k) = 42 ∨ zB t n (zsk t n k) = 47 then (match zex hm t n f 2 (zsk t n k + 1) o with
        | .inl e => .inl e
        | .inr (k1, c1) => match zex hm t n f 4 k1 o with
          | .inl e => .inl e
          | .inr (k2, c2) => .inr (k2, c1 ++ ((if zB t n (zsk t n k) = 42 then 3 else 4) :: c2)))
      else .inr (zsk t n k, []))
    else if zB t n (zsk t n k) = 40 then (if o = 6 then .inl (4, zsk t n k) else match zex hm t n f 0 (zsk t n k + 1) (o + 1) with
      | .inl e => .inl e
      | .inr (k1, c1) => if zB t n (zsk t n k1) = 41 then .inr (zsk t n k1 + 1, c1) else .inl (1, zsk t n k1))
    else if zhw t n (zsk t n k) zmin = true ∨ zhw t n (zsk t n k) zmax = true then
      (if zB t n (zsk t n (zsk t n k + 3)) = 40 then (if o = 6 then .inl (4, zsk t n (zsk t n k + 3)) else match zex hm t n f 0 (zsk t n (zsk t n k + 3) + 1) (o + 1) with
        | .inl e => .inl e
        | .inr (k1, c1) => if zB t n (zsk t n k1) = 44 then (match zex hm t n f 0 (zsk t n k1 + 1) (o + 1) with
            | .inl e => .inl e
            | .inr (k2, c2) => if zB t n (zsk t n k2) = 41 then .inr (zsk t n k2 + 1, c1 ++ (c2 ++ [if zhw t n (zsk t n k) zmin = true then 5 else 6])) else .inl (1, zsk t n k2))
          else .inl (1, zsk t n k1))
      else .inl (1, zsk t n (zsk t n k + 3)))
    else if zqw hm t n (zsk t n k) = 11 then (if o = 6 then .inl (4, zsk t n k) else match zex hm t n f 2 (zsk t n k + 3) (o + 1) with
      | .inl e => .inl e
      | .inr (k1, c1) => .inr (k1, c1 ++ [60]))
    else if 0 ≤ zqw hm t n (zsk t n k) ∧ zal hm (zqw hm t n (zsk t n k)) = true then .inr (zsk t n k + zln (zqw hm t n (zsk t n k)), [40 + zqw hm t n (zsk t n k)])
    else match znum t n k 0 9999 with
      | .inl e => .inl e
      | .inr (q, v) => .inr (q, [1000 + v])
/-! M's pile of what waits: brackets 20 to 24, signs 1 to 4, 60 for what has a part behind it (the last first) -/
def zib (v : Int) : Bool := decide (20 ≤ v ∧ v ≤ 24)
/-- down to a bracket: what is dropped, what is left -/
def zdb : List Int → List Int × List Int
  | [] => ([], [])
  | v :: w => if zib v = true then ([], v :: w) else (v :: (zdb w).1, (zdb w).2)
def zbr (w : List Int) : Int := match (zdb w).2 with
  | [] => -1
  | v :: _ => v
def zdr (m : Int) : List Int → List Int × List Int
  | [] => ([], [])
  | v :: w => if m ≤ v ∧ v ≤ 4 then (v :: (zdr m w).1, (zdr m w).2) else ([], v :: w)
/-- what must hold where a part may follow -/
def SA (hm : Bool) (t : Int → Int) (n : Int) (PA PE : Int → List Int → List Int → Int → Prop) (FF : Int → Int → Prop) (k : Int) (w cs : List Int) (o : Int) : Prop :=
  if zB t n (zsk t n k) = 40 then (if o = 6 then FF 4 (zsk t n k) else PA (zsk t n k + 1) (20 :: w) cs (o + 1))
  else if zhw t n (zsk t n k) zmin = true ∨ zhw t n (zsk t n k) zmax = true then
    (if zB t n (zsk t n (zsk t n k + 3)) = 40 then (if o = 6 then FF 4 (zsk t n (zsk t n k + 3)) else PA (zsk t n (zsk t n k + 3) + 1) ((if zhw t n (zsk t n k) zmin = true then 21 else 22) :: w) cs (o + 1)) else FF 1 (zsk t n (zsk t n k + 3)))
  else if zqw hm t n (zsk t n k) = 11 then (if o = 6 then FF 4 (zsk t n k) else PA (zsk t n k + 3) (60 :: w) cs (o + 1))
  else if 0 ≤ zqw hm t n (zsk t n k) ∧ zal hm (zqw hm t n (zsk t n k)) = true then PE (zsk t n k + zln (zqw hm t n (zsk t n k))) w (cs ++ [40 + zqw hm t n (zsk t n k)]) o
  else match znum t n k 0 9999 with
    | .inl e => FF e.1 e.2
    | .inr q => PE q.1 w (cs ++ [1000 + q.2]) o
def SE (PE PG : Int → List Int → List Int → Int → Prop) (k : Int) (w cs : List Int) (o : Int) : Prop := match w with
  | [] => PG k [] cs o
  | v :: w => if 60 ≤ v then PE k w (cs ++ [v]) (o - 1) else PG k (v :: w) cs o
def SG (t : Int → Int) (n : Int) (PA PE : Int → List Int → List Int → Int → Prop) (FF : Int → Int → Prop) (PZ : Int → List Int → Int → Prop) (k : Int) (w cs : List Int) (o : Int) : Prop :=
  if zB t n (zsk t n k) = 41 ∧ (zbr w = 20 ∨ zbr w = 23 ∨ zbr w = 24) then PE (zsk t n k + 1) (zdb w).2.tail (cs ++ ((zdb w).1 ++ (if zbr w = 20 then [] else [zbr w - 18]))) (o - 1)
  else if zB t n (zsk t n k) = 42 ∨ zB t n (zsk t n k) = 47 then PA (zsk t n k + 1) ((if zB t n (zsk t n k) = 42 then 3 else 4) :: (zdr 3 w).2) (cs ++ (zdr 3 w).1) o
  else if zB t n (zsk t n k) = 43 ∨ zB t n (zsk t n k) = 45 then PA (zsk t n k + 1) ((if zB t n (zsk t n k) = 43 then 1 else 2) :: (zdr 1 w).2) (cs ++ (zdr 1 w).1) o
  else if zbr w = 21 ∨ zbr w = 22 then (if zB t n (zsk t n k) = 44 then PA (zsk t n k + 1) ((zbr w + 2) :: (zdb w).2.tail) (cs ++ (zdb w).1) o else FF 1 (zsk t n k))
  else if zbr w ≠ -1 then FF 1 (zsk t n k)
  else PZ (zsk t n k) (cs ++ w) o
section EXP
variable {hm : Bool} {t : Int → Int} {n k o : Int} {PA PE PG : Int → List Int → List Int → Int → Prop} {FF : Int → Int → Prop} {PZ : Int → List Int → Int → Prop}
theorem znf_r : ∀ (j : Nat) (k v q w : Int), 0 ≤ k → k ≤ n → znf t n j k v = some (q, w) → k ≤ q ∧ q ≤ n := by
  intro j
  induction j with
  | zero =>
    intro k v q w h0 h1 e
    simp only [znf] at e
    split at e
    · cases e
    · injection e with e; injection e with e1 e2; omega
  | succ j ih =>
    intro k v q w h0 h1 e
    simp only [znf] at e
    split at e
    · rename_i g
      have hlt : k < n := by
        rcases Int.lt_or_le k n with q | q
        · exact q
        · rw [zB_o q] at g; cases g
      have := ih _ _ _ _ (by omega) (by omega) e; omega
    · injection e with e; injection e with e1 e2; omega
theorem znum_r {lo hi q v : Int} (h0 : 0 ≤ k) (h1 : k ≤ n) (e : znum t n k lo hi = .inr (q, v)) : zsk t n k < q ∧ q ≤ n ∧ lo ≤ v ∧ v ≤ hi := by
  have hs := @zsk_le k n t h1
  unfold znum at e
  split at e
  · rename_i g
    have hlt : zsk t n k < n := by
      rcases Int.lt_or_le (zsk t n k) n with q | q
      · exact q
      · rw [zB_o q] at g; cases g.1
    cases e1 : znf t n 4 (zsk t n k) 0 with
    | none => rw [e1] at e; cases e
    | some x =>
      obtain ⟨a, b⟩ := x
      rw [e1] at e
      simp only at e
      split at e
      · rename_i g2
        simp only [Sum.inr.injEq, Prod.mk.injEq] at e
        simp only [znf, g.1, if_true] at e1
        have := @znf_r t n 3 _ _ _ _ (by omega) (by omega) e1
        omega
      · cases e
  · cases e
theorem znum_f {lo hi a b : Int} (e : znum t n k lo hi = .inl (a, b)) : a = 1 ∨ a = 2 := by
  unfold znum at e
  split at e
  · cases e1 : znf t n 4 (zsk t n k) 0 with
    | none => rw [e1] at e; simp only [Sum.inl.injEq, Prod.mk.injEq] at e; omega
    | some x =>
      rw [e1] at e
      simp only at e
      split at e
      · cases e
      · simp only [Sum.inl.injEq, Prod.mk.injEq] at e; omega
  · simp only [Sum.inl.injEq, Prod.mk.injEq] at e; omega
theorem zhw_r {p : Int} {W : List Int} (h1 : p ≤ n) (e : zhw t n p W = true) : p + W.length ≤ n ∧ zB t n p ≠ 40 := by
  unfold zhw at e
  simp only [Bool.and_eq_true, decide_eq_true_eq] at e
  have := @zwe_le p n t h1
  refine ⟨by omega, fun q => ?_⟩
  have := e.1
  unfold zwb at this
  rw [q] at this; cases this
theorem zqw_r {p : Int} (h1 : p ≤ n) (e : 0 ≤ zqw hm t n p) : zqw hm t n p ≤ 11 ∧ p + zln (zqw hm t n p) ≤ n ∧ 3 ≤ zln (zqw hm t n p) := by
  have key : ∀ (W : List Int) (v : Int), zhw t n p W = true → v ≤ 11 → (W.length : Int) = zln v → 3 ≤ zln v → v ≤ 11 ∧ p + zln v ≤ n ∧ 3 ≤ zln v := fun W v a b c d => ⟨b, by have := (zhw_r h1 a).1; omega, d⟩
  unfold zqw at e ⊢
  repeat' split
  all_goals (first | (refine key _ _ (by assumption) (by decide) (by decide) (by decide)) | (rename_i a b c d e f g h i j l; simp only [a, b, c, d, e, f, g, h, i, j, l, if_false] at *; omega) | skip)
  simp_all
def zrk (md : Int) : Int := if md = 0 then 3 else if md = 1 then 2 else 1
def zop34 (t : Int → Int) (n k : Int) : Prop := zB t n (zsk t n k) = 42 ∨ zB t n (zsk t n k) = 47
def zop12 (t : Int → Int) (n k : Int) : Prop := zB t n (zsk t n k) = 43 ∨ zB t n (zsk t n k) = 45
def ZPr (hm : Bool) (t : Int → Int) (n : Int) (f : Nat) (md k o : Int) : Prop :=
  (∀ k1 c, zex hm t n f md k o = .inr (k1, c) → k ≤ k1 ∧ k1 ≤ n ∧ (md ≤ 2 → k < k1) ∧ (c.length : Int) ≤ k1 - k ∧ (md = 1 ∨ md = 4 → ¬ zop34 t n k1) ∧ (md = 0 → ¬ zop34 t n k1 ∧ ¬ zop12 t n k1) ∧ (md = 3 → ¬ zop34 t n k → ¬ zop34 t n k1 ∧ ¬ zop12 t n k1))
  ∧ (6 * (n - k) + zrk md ≤ f → ∀ p, zex hm t n f md k o ≠ .inl (99, p))
theorem zskn (h1 : k ≤ n) : zB t n (zsk t n k) ≠ -1 → zsk t n k < n := by
  intro g
  rcases Int.lt_or_le (zsk t n k) n with q | q
  · exact q
  · exact absurd (zB_o q) g
theorem zop_s (h0 : 0 ≤ k) (h1 : k ≤ n) : (zop34 t n (zsk t n k) ↔ zop34 t n k) ∧ (zop12 t n (zsk t n k) ↔ zop12 t n k) := by
  unfold zop34 zop12; rw [zsk_zsk h0 h1]; exact ⟨Iff.rfl, Iff.rfl⟩
theorem zex_pr : ∀ (f : Nat) (md k o : Int), 0 ≤ k → k ≤ n → 0 ≤ md → md ≤ 4 → ZPr hm t n f md k o := by
  intro f
  induction f with
  | zero =>
    intro md k o h0 h1 m0 m1
    refine ⟨fun k1 c e => (by cases e), fun hf => ?_⟩
    unfold zrk at hf; exfalso; revert hf; split
    · intro hf; omega
    · split <;> (intro hf; omega)
  | succ f ih =>
    intro md k o h0 h1 m0 m1
    have hs := @zsk_le k n t h1
    have hmd : md = 0 ∨ md = 1 ∨ md = 2 ∨ md = 3 ∨ md = 4 := by omega
    have hlf : ∀ {md : Int} {Z : (Int × Int) ⊕ (Int × List Int)} (a b : Int), a ≠ 99 → Z = .inl (a, b) → (∀ k1 c, Z = .inr (k1, c) → k ≤ k1 ∧ k1 ≤ n ∧ (md ≤ 2 → k < k1) ∧ (c.length : Int) ≤ k1 - k ∧ (md = 1 ∨ md = 4 → ¬ zop34 t n k1) ∧ (md = 0 → ¬ zop34 t n k1 ∧ ¬ zop12 t n k1) ∧ (md = 3 → ¬ zop34 t n k → ¬ zop34 t n k1 ∧ ¬ zop12 t n k1)) ∧ (6 * (n - k) + zrk md ≤ ((f + 1 : Nat) : Int) → ∀ p, Z ≠ .inl (99, p)) := by
      intro md Z a b ha e; subst e
      exact ⟨fun k1 c e => (by simp at e), fun _ p e => by simp only [Sum.inl.injEq, Prod.mk.injEq] at e; exact ha e.1⟩
    have hln : ∀ {md : Int} {Z : (Int × Int) ⊕ (Int × List Int)} (a b : Int), (6 * (n - k) + zrk md ≤ ((f + 1 : Nat) : Int) → a ≠ 99) → Z = .inl (a, b) → (∀ k1 c, Z = .inr (k1, c) → k ≤ k1 ∧ k1 ≤ n ∧ (md ≤ 2 → k < k1) ∧ (c.length : Int) ≤ k1 - k ∧ (md = 1 ∨ md = 4 → ¬ zop34 t n k1) ∧ (md = 0 → ¬ zop34 t n k1 ∧ ¬ zop12 t n k1) ∧ (md = 3 → ¬ zop34 t n k → ¬ zop34 t n k1 ∧ ¬ zop12 t n k1)) ∧ (6 * (n - k) + zrk md ≤ ((f + 1 : Nat) : Int) → ∀ p, Z ≠ .inl (99, p)) := by
      intro md Z a b ha e; subst e
      exact ⟨fun k1 c e => (by simp at e), fun hf p e => by simp only [Sum.inl.injEq, Prod.mk.injEq] at e; exact ha hf e.1⟩
    have hrt : ∀ {md : Int} {Z : (Int × Int) ⊕ (Int × List Int)} (q : Int) (c : List Int), k ≤ q → q ≤ n → (md ≤ 2 → k < q) → (c.length : Int) ≤ q - k → (md = 1 ∨ md = 4 → ¬ zop34 t n q) → (md = 0 → ¬ zop34 t n q ∧ ¬ zop12 t n q) → (md = 3 → ¬ zop34 t n k → ¬ zop34 t n q ∧ ¬ zop12 t n q) → Z = .inr (q, c) → (∀ k1 c, Z = .inr (k1, c) → k ≤ k1 ∧ k1 ≤ n ∧ (md ≤ 2 → k < k1) ∧ (c.length : Int) ≤ k1 - k ∧ (md = 1 ∨ md = 4 → ¬ zop34 t n k1) ∧ (md = 0 → ¬ zop34 t n k1 ∧ ¬ zop12 t n k1) ∧ (md = 3 → ¬ zop34 t n k → ¬ zop34 t n k1 ∧ ¬ zop12 t n k1)) ∧ (6 * (n - k) + zrk md ≤ ((f + 1 : Nat) : Int) → ∀ p, Z ≠ .inl (99, p)) := by
      intro md Z q c a1 a2 a3 a4 a5 a6 a7 e; subst e
      refine ⟨fun k1 c1 e => ?_, fun _ p e => (by simp at e)⟩
      simp only [Sum.inr.injEq, Prod.mk.injEq] at e
      obtain ⟨e1', e2'⟩ := e
      subst e1'; subst e2'
      exact ⟨a1, a2, a3, a4, a5, a6, a7⟩
    rcases hmd with e | e | e | e | e <;> subst e
    · -- a sum
      unfold ZPr
      generalize eZ : zex hm t n (f + 1) 0 k o = Z
      simp only [zex, if_true, if_false, Int.reduceEq] at eZ
      have i1 := ih 1 (k) (o) h0 h1 (by omega) (by omega)
      unfold ZPr at i1
      cases e1 : zex hm t n f 1 (k) (o) with
      | inl x =>
        obtain ⟨a, b⟩ := x
        simp only [e1] at eZ
        refine hln a b (fun hf q => i1.2 (by simp [zrk] at hf ⊢; omega) b (by rw [e1, q])) eZ.symm
      | inr x =>
        obtain ⟨ka, ca⟩ := x
        have j1 := i1.1 ka ca e1
        have hs1 := @zsk_le ka n t j1.2.1
        simp only [e1] at eZ
        have i2 := ih 3 (ka) (o) (by omega) j1.2.1 (by omega) (by omega)
        unfold ZPr at i2
        cases e2 : zex hm t n f 3 (ka) (o) with
        | inl x =>
          obtain ⟨a, b⟩ := x
          simp only [e2] at eZ
          refine hln a b (fun hf q => i2.2 (by simp [zrk] at hf ⊢; omega) b (by rw [e2, q])) eZ.symm
        | inr x =>
          obtain ⟨kb, cb⟩ := x
          have j2 := i2.1 kb cb e2
          have hs2 := @zsk_le kb n t j2.2.1
          simp only [e2] at eZ
          exact hrt kb (ca ++ cb) (by omega) (by omega) (fun _ => by omega) (by first | omega | (simp only [List.length_append, List.length_cons, List.length_nil]; omega)) (fun q => (by simp at q)) (fun _ => j2.2.2.2.2.2.2 rfl (j1.2.2.2.2.1 (Or.inl rfl))) (fun q => (by simp at q)) eZ.symm
    · -- a product
      unfold ZPr
      generalize eZ : zex hm t n (f + 1) 1 k o = Z
      simp only [zex, if_true, if_false, Int.reduceEq] at eZ
      have i3 := ih 2 (k) (o) h0 h1 (by omega) (by omega)
      unfold ZPr at i3
      cases e3 : zex hm t n f 2 (k) (o) with
      | inl x =>
        obtain ⟨a, b⟩ := x
        simp only [e3] at eZ
        refine hln a b (fun hf q => i3.2 (by simp [zrk] at hf ⊢; omega) b (by rw [e3, q])) eZ.symm
      | inr x =>
        obtain ⟨ka, ca⟩ := x
        have j3 := i3.1 ka ca e3
        have hs3 := @zsk_le ka n t j3.2.1
        simp only [e3] at eZ
        have i4 := ih 4 (ka) (o) (by omega) j3.2.1 (by omega) (by omega)
        unfold ZPr at i4
        cases e4 : zex hm t n f 4 (ka) (o) with
        | inl x =>
          obtain ⟨a, b⟩ := x
          simp only [e4] at eZ
          refine hln a b (fun hf q => i4.2 (by simp [zrk] at hf ⊢; omega) b (by rw [e4, q])) eZ.symm
        | inr x =>
          obtain ⟨kb, cb⟩ := x
          have j4 := i4.1 kb cb e4
          have hs4 := @zsk_le kb n t j4.2.1
          simp only [e4] at eZ
          exact hrt kb (ca ++ cb) (by omega) (by omega) (fun _ => by omega) (by first | omega | (simp only [List.length_append, List.length_cons, List.length_nil]; omega)) (fun _ => j4.2.2.2.2.1 (Or.inr rfl)) (fun q => (by simp at q)) (fun q => (by simp at q)) eZ.symm
    · -- an atom
      unfold ZPr
      generalize eZ : zex hm t n (f + 1) 2 k o = Z
      simp only [zex, if_true, if_false, Int.reduceEq] at eZ
      by_cases g1 : zB t n (zsk t n k) = 40
      · rw [if_pos g1] at eZ
        have hlt := zskn h1 (by rw [g1]; decide)
        by_cases g2 : o = 6
        · rw [if_pos g2] at eZ; exact hlf _ _ (by decide) eZ.symm
        · rw [if_neg g2] at eZ
          have i5 := ih 0 (zsk t n k + 1) (o + 1) (by omega) (by omega) (by omega) (by omega)
          unfold ZPr at i5
          cases e5 : zex hm t n f 0 (zsk t n k + 1) (o + 1) with
          | inl x =>
            obtain ⟨a, b⟩ := x
            simp only [e5] at eZ
            refine hln a b (fun hf q => i5.2 (by simp [zrk] at hf ⊢; omega) b (by rw [e5, q])) eZ.symm
          | inr x =>
            obtain ⟨ka, ca⟩ := x
            have j5 := i5.1 ka ca e5
            have hs5 := @zsk_le ka n t j5.2.1
            simp only [e5] at eZ
            by_cases g3 : zB t n (zsk t n ka) = 41
            · rw [if_pos g3] at eZ
              have := zskn j5.2.1 (by rw [g3]; decide)
              exact hrt _ _ (by omega) (by omega) (fun _ => by omega) (by first | omega | (simp only [List.length_append, List.length_cons, List.length_nil]; omega)) (fun q => (by simp at q)) (fun q => (by simp at q)) (fun q => (by simp at q)) eZ.symm
            · rw [if_neg g3] at eZ; exact hlf _ _ (by decide) eZ.symm
      · rw [if_neg g1] at eZ
        by_cases g2 : zhw t n (zsk t n k) zmin = true ∨ zhw t n (zsk t n k) zmax = true
        · rw [if_pos g2] at eZ
          have hw : zsk t n k + 3 ≤ n := by
            rcases g2 with q | q
            · exact (zhw_r hs.2 q).1
            · exact (zhw_r hs.2 q).1
          have hs3 := @zsk_le (zsk t n k + 3) n t hw
          by_cases g3 : zB t n (zsk t n (zsk t n k + 3)) = 40
          · rw [if_pos g3] at eZ
            have hlt := zskn hw (by rw [g3]; decide)
            by_cases g4 : o = 6
            · rw [if_pos g4] at eZ; exact hlf _ _ (by decide) eZ.symm
            · rw [if_neg g4] at eZ
              have i6 := ih 0 (zsk t n (zsk t n k + 3) + 1) (o + 1) (by omega) (by omega) (by omega) (by omega)
              unfold ZPr at i6
              cases e6 : zex hm t n f 0 (zsk t n (zsk t n k + 3) + 1) (o + 1) with
              | inl x =>
                obtain ⟨a, b⟩ := x
                simp only [e6] at eZ
                refine hln a b (fun hf q => i6.2 (by simp [zrk] at hf ⊢; omega) b (by rw [e6, q])) eZ.symm
              | inr x =>
                obtain ⟨ka, ca⟩ := x
                have j6 := i6.1 ka ca e6
                have hs6 := @zsk_le ka n t j6.2.1
                simp only [e6] at eZ
                by_cases g5 : zB t n (zsk t n ka) = 44
                · rw [if_pos g5] at eZ
                  have hlt1 := zskn j6.2.1 (by rw [g5]; decide)
                  have i7 := ih 0 (zsk t n ka + 1) (o + 1) (by omega) (by omega) (by omega) (by omega)
                  unfold ZPr at i7
                  cases e7 : zex hm t n f 0 (zsk t n ka + 1) (o + 1) with
                  | inl x =>
                    obtain ⟨a, b⟩ := x
                    simp only [e7] at eZ
                    refine hln a b (fun hf q => i7.2 (by simp [zrk] at hf ⊢; omega) b (by rw [e7, q])) eZ.symm
                  | inr x =>
                    obtain ⟨kb, cb⟩ := x
                    have j7 := i7.1 kb cb e7
                    have hs7 := @zsk_le kb n t j7.2.1
                    simp only [e7] at eZ
                    by_cases g6 : zB t n (zsk t n kb) = 41
                    · rw [if_pos g6] at eZ
                      have := zskn j7.2.1 (by rw [g6]; decide)
                      exact hrt _ _ (by omega) (by omega) (fun _ => by omega) (by first | omega | (simp only [List.length_append, List.length_cons, List.length_nil]; omega)) (fun q => (by simp at q)) (fun q => (by simp at q)) (fun q => (by simp at q)) eZ.symm
                    · rw [if_neg g6] at eZ; exact hlf _ _ (by decide) eZ.symm
                · rw [if_neg g5] at eZ; exact hlf _ _ (by decide) eZ.symm
          · rw [if_neg g3] at eZ; exact hlf _ _ (by decide) eZ.symm
        · rw [if_neg g2] at eZ
          by_cases g3 : zqw hm t n (zsk t n k) = 11
          · rw [if_pos g3] at eZ
            have hq := @zqw_r hm t n (zsk t n k) hs.2 (by omega)
            have h3 : zln (zqw hm t n (zsk t n k)) = 3 := by rw [g3]; rfl
            by_cases g4 : o = 6
            · rw [if_pos g4] at eZ; exact hlf _ _ (by decide) eZ.symm
            · rw [if_neg g4] at eZ
              have i8 := ih 2 (zsk t n k + 3) (o + 1) (by omega) (by omega) (by omega) (by omega)
              unfold ZPr at i8
              cases e8 : zex hm t n f 2 (zsk t n k + 3) (o + 1) with
              | inl x =>
                obtain ⟨a, b⟩ := x
                simp only [e8] at eZ
                refine hln a b (fun hf q => i8.2 (by simp [zrk] at hf ⊢; omega) b (by rw [e8, q])) eZ.symm
              | inr x =>
                obtain ⟨ka, ca⟩ := x
                have j8 := i8.1 ka ca e8
                have hs8 := @zsk_le ka n t j8.2.1
                simp only [e8] at eZ
                exact hrt _ _ (by omega) (by omega) (fun _ => by omega) (by first | omega | (simp only [List.length_append, List.length_cons, List.length_nil]; omega)) (fun q => (by simp at q)) (fun q => (by simp at q)) (fun q => (by simp at q)) eZ.symm
          · rw [if_neg g3] at eZ
            by_cases g4 : 0 ≤ zqw hm t n (zsk t n k) ∧ zal hm (zqw hm t n (zsk t n k)) = true
            · rw [if_pos g4] at eZ
              have hq := @zqw_r hm t n (zsk t n k) hs.2 g4.1
              exact hrt _ _ (by omega) (by omega) (fun _ => by omega) (by first | omega | (simp only [List.length_append, List.length_cons, List.length_nil]; omega)) (fun q => (by simp at q)) (fun q => (by simp at q)) (fun q => (by simp at q)) eZ.symm
            · rw [if_neg g4] at eZ
              cases e1 : znum t n k 0 9999 with
              | inl x =>
                obtain ⟨a, b⟩ := x
                have := znum_f e1
                simp only [e1] at eZ
                exact hlf _ _ (by omega) eZ.symm
              | inr x =>
                obtain ⟨q, v⟩ := x
                have := znum_r h0 h1 e1
                simp only [e1] at eZ
                exact hrt _ _ (by omega) (by omega) (fun _ => by omega) (by first | omega | (simp only [List.length_append, List.length_cons, List.length_nil]; omega)) (fun q => (by simp at q)) (fun q => (by simp at q)) (fun q => (by simp at q)) eZ.symm
    · -- what follows
      unfold ZPr
      generalize eZ : zex hm t n (f + 1) 3 k o = Z
      simp only [zex, if_true, if_false, Int.reduceEq] at eZ
      by_cases g1 : zB t n (zsk t n k) = 43 ∨ zB t n (zsk t n k) = 45
      · rw [if_pos g1] at eZ
        have hlt := zskn (t := t) h1 (by omega)
        have i9 := ih 1 (zsk t n k + 1) (o) (by omega) (by omega) (by omega) (by omega)
        unfold ZPr at i9
        cases e9 : zex hm t n f 1 (zsk t n k + 1) (o) with
        | inl x =>
          obtain ⟨a, b⟩ := x
          simp only [e9] at eZ
          refine hln a b (fun hf q => i9.2 (by simp [zrk] at hf ⊢; omega) b (by rw [e9, q])) eZ.symm
        | inr x =>
          obtain ⟨ka, ca⟩ := x
          have j9 := i9.1 ka ca e9
          have hs9 := @zsk_le ka n t j9.2.1
          simp only [e9] at eZ
          have i10 := ih 3 (ka) (o) (by omega) j9.2.1 (by omega) (by omega)
          unfold ZPr at i10
          cases e10 : zex hm t n f 3 (ka) (o) with
          | inl x =>
            obtain ⟨a, b⟩ := x
            simp only [e10] at eZ
            refine hln a b (fun hf q => i10.2 (by simp [zrk] at hf ⊢; omega) b (by rw [e10, q])) eZ.symm
          | inr x =>
            obtain ⟨kb, cb⟩ := x
            have j10 := i10.1 kb cb e10
            have hs10 := @zsk_le kb n t j10.2.1
            simp only [e10] at eZ
            exact hrt _ _ (by omega) (by omega) (fun _ => by omega) (by first | omega | (simp only [List.length_append, List.length_cons, List.length_nil]; omega)) (fun q => (by simp at q)) (fun q => (by simp at q)) (fun _ _ => j10.2.2.2.2.2.2 rfl (j9.2.2.2.2.1 (Or.inl rfl))) eZ.symm
      · rw [if_neg g1] at eZ
        have hz := @zop_s t n k h0 h1
        exact hrt _ _ (by omega) (by omega) (fun q => (by simp at q)) (by simp; omega) (fun q => (by simp at q)) (fun q => (by simp at q)) (fun _ q => ⟨fun z => q (hz.1.1 z), fun z => g1 (hz.2.1 z)⟩) eZ.symm
    · -- what follows
      unfold ZPr
      generalize eZ : zex hm t n (f + 1) 4 k o = Z
      simp only [zex, if_true, if_false, Int.reduceEq] at eZ
      by_cases g1 : zB t n (zsk t n k) = 42 ∨ zB t n (zsk t n k) = 47
      · rw [if_pos g1] at eZ
        have hlt := zskn (t := t) h1 (by omega)
        have i11 := ih 2 (zsk t n k + 1) (o) (by omega) (by omega) (by omega) (by omega)
        unfold ZPr at i11
        cases e11 : zex hm t n f 2 (zsk t n k + 1) (o) with
        | inl x =>
          obtain ⟨a, b⟩ := x
          simp only [e11] at eZ
          refine hln a b (fun hf q => i11.2 (by simp [zrk] at hf ⊢; omega) b (by rw [e11, q])) eZ.symm
        | inr x =>
          obtain ⟨ka, ca⟩ := x
          have j11 := i11.1 ka ca e11
          have hs11 := @zsk_le ka n t j11.2.1
          simp only [e11] at eZ
          have i12 := ih 4 (ka) (o) (by omega) j11.2.1 (by omega) (by omega)
          unfold ZPr at i12
          cases e12 : zex hm t n f 4 (ka) (o) with
          | inl x =>
            obtain ⟨a, b⟩ := x
            simp only [e12] at eZ
            refine hln a b (fun hf q => i12.2 (by simp [zrk] at hf ⊢; omega) b (by rw [e12, q])) eZ.symm
          | inr x =>
            obtain ⟨kb, cb⟩ := x
            have j12 := i12.1 kb cb e12
            have hs12 := @zsk_le kb n t j12.2.1
            simp only [e12] at eZ
            exact hrt _ _ (by omega) (by omega) (fun _ => by omega) (by first | omega | (simp only [List.length_append, List.length_cons, List.length_nil]; omega)) (fun _ => j12.2.2.2.2.1 (Or.inr rfl)) (fun q => (by simp at q)) (fun q => (by simp at q)) eZ.symm
      · rw [if_neg g1] at eZ
        have hz := @zop_s t n k h0 h1
        exact hrt _ _ (by omega) (by omega) (fun q => (by simp at q)) (by simp; omega) (fun _ z => g1 (hz.1.1 z)) (fun q => (by simp at q)) (fun q => (by simp at q)) eZ.symm
end EXP
