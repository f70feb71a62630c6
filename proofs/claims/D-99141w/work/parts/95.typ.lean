/-! ===== codes as told are well formed ===== -/
section TYP
variable {hm : Bool} {t : Int → Int} {n k o : Int} {pt of : Int → Int}
theorem ztl_app : ∀ (c1 c2 : List Int) (ts : List Bool), ztl hm (c1 ++ c2) ts = match ztl hm c1 ts with | some ts => ztl hm c2 ts | none => none := by
  intro c1
  induction c1 with
  | nil => intro c2 ts; rfl
  | cons c c1 ih =>
    intro c2 ts
    simp only [List.cons_append, ztl]
    cases e : zty hm c ts with
    | none => rfl
    | some ts' => exact ih c2 ts'
theorem ztl_1 {c : Int} {ts : List Bool} : ztl hm [c] ts = zty hm c ts := by
  simp only [ztl]; cases zty hm c ts <;> rfl
theorem zrun_app : ∀ (c1 c2 st : List Int), zrun pt of (c1 ++ c2) st = zrun pt of c2 (zrun pt of c1 st) := by
  intro c1
  induction c1 with
  | nil => intro c2 st; rfl
  | cons c c1 ih => intro c2 st; exact ih c2 _
def TyS (hm : Bool) (c : List Int) : Prop := ∀ ts, ztl hm c ts = some (false :: ts)
def TyT (c : List Int) : Prop := ∀ ts, ztl false c ts = some (true :: ts)
theorem zty_j {c : Int} {ts : List Bool} (h1 : 1 ≤ c ∧ c ≤ 6) : zty hm c (false :: false :: ts) = some (false :: ts) := by
  unfold zty
  rw [if_neg (by omega), if_neg (by omega), if_neg (by omega), if_neg (by omega), if_neg (by omega), if_neg (by omega), if_pos h1]
theorem TyS_j {c1 c2 : List Int} {op : Int} (h1 : TyS hm c1) (h2 : TyS hm c2) (ho : 1 ≤ op ∧ op ≤ 6) : TyS hm (c1 ++ (c2 ++ [op])) := by
  intro ts
  rw [ztl_app, h1 ts]; simp only
  rw [ztl_app, h2]; simp only
  rw [ztl_1, zty_j ho]
theorem zqw_al {p : Int} (h1 : 0 ≤ zqw hm t n p) (h2 : zal hm (zqw hm t n p) = true) (hle : zqw hm t n p ≤ 10) : TyS hm [40 + zqw hm t n p] := by
  intro ts
  rw [ztl_1]
  generalize zqw hm t n p = v at *
  unfold zal at h2
  unfold zty
  rw [if_neg (by omega), if_neg (by omega), if_pos (by omega)]
  cases hm
  · rw [if_neg (by decide)] at h2
    have := of_decide_eq_true h2
    rw [if_pos (Or.inr ⟨rfl, by omega, by omega⟩)]
  · rw [if_pos rfl] at h2
    have := of_decide_eq_true h2
    rw [if_pos (Or.inl ⟨rfl, by omega⟩)]
theorem zex_ty : ∀ (f : Nat) (md k o k1 : Int) (c : List Int), 0 ≤ k → k ≤ n → zex hm t n f md k o = .inr (k1, c) → ((md = 0 ∨ md = 1 ∨ md = 2) → TyS hm c) ∧ ((md = 3 ∨ md = 4) → ∀ ts, ztl hm c (false :: ts) = some (false :: ts)) := by
  intro f
  induction f with
  | zero => intro md k o k1 c h0 h1 e; cases e
  | succ f ih =>
    intro md k o k1 c h0 h1 e
    have hs := @zsk_le k n t h1
    constructor
    · intro hmd
      rcases hmd with g | g | g <;> subst g
      · simp only [zex, if_true] at e
        have pr := (zex_pr (hm := hm) (t := t) (n := n) f 1 k o h0 h1 (by omega) (by omega)).1
        cases e1 : zex hm t n f 1 k o with
        | inl x => rw [e1] at e; cases e
        | inr x =>
          obtain ⟨ka, ca⟩ := x
          have j := pr ka ca e1
          rw [e1] at e; simp only at e
          cases e2 : zex hm t n f 3 ka o with
          | inl x => rw [e2] at e; cases e
          | inr x =>
            obtain ⟨kb, cb⟩ := x
            rw [e2] at e
            simp only [Sum.inr.injEq, Prod.mk.injEq] at e
            rw [← e.2]
            intro ts
            rw [ztl_app, (ih _ _ _ _ _ h0 h1 e1).1 (by omega) ts]
            exact (ih _ _ _ _ _ (by omega) j.2.1 e2).2 (by omega) ts
      · simp only [zex, if_true, if_false, Int.reduceEq] at e
        have pr := (zex_pr (hm := hm) (t := t) (n := n) f 2 k o h0 h1 (by omega) (by omega)).1
        cases e1 : zex hm t n f 2 k o with
        | inl x => rw [e1] at e; cases e
        | inr x =>
          obtain ⟨ka, ca⟩ := x
          have j := pr ka ca e1
          rw [e1] at e; simp only at e
          cases e2 : zex hm t n f 4 ka o with
          | inl x => rw [e2] at e; cases e
          | inr x =>
            obtain ⟨kb, cb⟩ := x
            rw [e2] at e
            simp only [Sum.inr.injEq, Prod.mk.injEq] at e
            rw [← e.2]
            intro ts
            rw [ztl_app, (ih _ _ _ _ _ h0 h1 e1).1 (by omega) ts]
            exact (ih _ _ _ _ _ (by omega) j.2.1 e2).2 (by omega) ts
      · simp only [zex, if_false, Int.reduceEq] at e
        by_cases g1 : zB t n (zsk t n k) = 40
        · rw [if_pos g1] at e
          have hlt := zskn (t := t) h1 (by rw [g1]; decide)
          by_cases g2 : o = 6
          · rw [if_pos g2] at e; cases e
          · rw [if_neg g2] at e
            cases e1 : zex hm t n f 0 (zsk t n k + 1) (o + 1) with
            | inl x => rw [e1] at e; cases e
            | inr x =>
              obtain ⟨ka, ca⟩ := x
              rw [e1] at e; simp only at e
              by_cases g3 : zB t n (zsk t n ka) = 41
              · rw [if_pos g3] at e
                simp only [Sum.inr.injEq, Prod.mk.injEq] at e
                rw [← e.2]
                exact (ih _ _ _ _ _ (by omega) (by omega) e1).1 (by omega)
              · rw [if_neg g3] at e; cases e
        · rw [if_neg g1] at e
          by_cases g2 : zhw t n (zsk t n k) zmin = true ∨ zhw t n (zsk t n k) zmax = true
          · rw [if_pos g2] at e
            have hw : zsk t n k + 3 ≤ n := by
              rcases g2 with q | q
              · exact (zhw_r hs.2 q).1
              · exact (zhw_r hs.2 q).1
            have hs3 := @zsk_le (zsk t n k + 3) n t hw
            by_cases g3 : zB t n (zsk t n (zsk t n k + 3)) = 40
            · rw [if_pos g3] at e
              have hlt := zskn hw (by rw [g3]; decide)
              by_cases g4 : o = 6
              · rw [if_pos g4] at e; cases e
              · rw [if_neg g4] at e
                have pr := (zex_pr (hm := hm) (t := t) (n := n) f 0 (zsk t n (zsk t n k + 3) + 1) (o + 1) (by omega) (by omega) (by omega) (by omega)).1
                cases e1 : zex hm t n f 0 (zsk t n (zsk t n k + 3) + 1) (o + 1) with
                | inl x => rw [e1] at e; cases e
                | inr x =>
                  obtain ⟨ka, ca⟩ := x
                  have j := pr ka ca e1
                  have hs1 := @zsk_le ka n t j.2.1
                  rw [e1] at e; simp only at e
                  by_cases g5 : zB t n (zsk t n ka) = 44
                  · rw [if_pos g5] at e
                    have hlt1 := zskn j.2.1 (by rw [g5]; decide)
                    cases e2 : zex hm t n f 0 (zsk t n ka + 1) (o + 1) with
                    | inl x => rw [e2] at e; cases e
                    | inr x =>
                      obtain ⟨kb, cb⟩ := x
                      rw [e2] at e; simp only at e
                      by_cases g6 : zB t n (zsk t n kb) = 41
                      · rw [if_pos g6] at e
                        simp only [Sum.inr.injEq, Prod.mk.injEq] at e
                        rw [← e.2]
                        exact TyS_j ((ih _ _ _ _ _ (by omega) (by omega) e1).1 (by omega)) ((ih _ _ _ _ _ (by omega) (by omega) e2).1 (by omega)) (by split <;> omega)
                      · rw [if_neg g6] at e; cases e
                  · rw [if_neg g5] at e; cases e
            · rw [if_neg g3] at e; cases e
          · rw [if_neg g2] at e
            by_cases g3 : zqw hm t n (zsk t n k) = 11
            · rw [if_pos g3] at e
              have hmf := zqw_11 g3
              have hq := @zqw_r hm t n (zsk t n k) hs.2 (by omega)
              have h3 : zln (zqw hm t n (zsk t n k)) = 3 := by rw [g3]; rfl
              by_cases g4 : o = 6
              · rw [if_pos g4] at e; cases e
              · rw [if_neg g4] at e
                cases e1 : zex hm t n f 2 (zsk t n k + 3) (o + 1) with
                | inl x => rw [e1] at e; cases e
                | inr x =>
                  obtain ⟨ka, ca⟩ := x
                  rw [e1] at e
                  simp only [Sum.inr.injEq, Prod.mk.injEq] at e
                  rw [← e.2]
                  intro ts
                  rw [ztl_app, (ih _ _ _ _ _ (by omega) (by omega) e1).1 (by omega) ts]
                  simp only
                  rw [ztl_1, hmf]; rfl
            · rw [if_neg g3] at e
              by_cases g4 : 0 ≤ zqw hm t n (zsk t n k) ∧ zal hm (zqw hm t n (zsk t n k)) = true
              · rw [if_pos g4] at e
                have hq := @zqw_r hm t n (zsk t n k) hs.2 g4.1
                simp only [Sum.inr.injEq, Prod.mk.injEq] at e
                rw [← e.2]
                exact zqw_al g4.1 g4.2 (by omega)
              · rw [if_neg g4] at e
                cases e1 : znum t n k 0 9999 with
                | inl x => rw [e1] at e; cases e
                | inr x =>
                  obtain ⟨q, v⟩ := x
                  have hr := znum_r h0 h1 e1
                  rw [e1] at e
                  simp only [Sum.inr.injEq, Prod.mk.injEq] at e
                  rw [← e.2]
                  intro ts
                  rw [ztl_1]; unfold zty; rw [if_pos (by omega), if_pos (by omega)]
    · intro hmd
      rcases hmd with g | g <;> subst g
      · simp only [zex, if_true, if_false, Int.reduceEq] at e
        by_cases g1 : zB t n (zsk t n k) = 43 ∨ zB t n (zsk t n k) = 45
        · rw [if_pos g1] at e
          have hlt := zskn (t := t) h1 (by omega)
          have pr := (zex_pr (hm := hm) (t := t) (n := n) f 1 (zsk t n k + 1) o (by omega) (by omega) (by omega) (by omega)).1
          cases e1 : zex hm t n f 1 (zsk t n k + 1) o with
          | inl x => rw [e1] at e; cases e
          | inr x =>
            obtain ⟨ka, ca⟩ := x
            have j := pr ka ca e1
            rw [e1] at e; simp only at e
            cases e2 : zex hm t n f 3 ka o with
            | inl x => rw [e2] at e; cases e
            | inr x =>
              obtain ⟨kb, cb⟩ := x
              rw [e2] at e
              simp only [Sum.inr.injEq, Prod.mk.injEq] at e
              rw [← e.2]
              intro ts
              rw [ztl_app, (ih _ _ _ _ _ (by omega) (by omega) e1).1 (by omega)]
              simp only [ztl]
              rw [zty_j (by split <;> omega)]
              exact (ih _ _ _ _ _ (by omega) j.2.1 e2).2 (by omega) ts
        · rw [if_neg g1] at e
          simp only [Sum.inr.injEq, Prod.mk.injEq] at e
          rw [← e.2]; intro ts; rfl
      · simp only [zex, if_true, if_false, Int.reduceEq] at e
        by_cases g1 : zB t n (zsk t n k) = 42 ∨ zB t n (zsk t n k) = 47
        · rw [if_pos g1] at e
          have hlt := zskn (t := t) h1 (by omega)
          have pr := (zex_pr (hm := hm) (t := t) (n := n) f 2 (zsk t n k + 1) o (by omega) (by omega) (by omega) (by omega)).1
          cases e1 : zex hm t n f 2 (zsk t n k + 1) o with
          | inl x => rw [e1] at e; cases e
          | inr x =>
            obtain ⟨ka, ca⟩ := x
            have j := pr ka ca e1
            rw [e1] at e; simp only at e
            cases e2 : zex hm t n f 4 ka o with
            | inl x => rw [e2] at e; cases e
            | inr x =>
              obtain ⟨kb, cb⟩ := x
              rw [e2] at e
              simp only [Sum.inr.injEq, Prod.mk.injEq] at e
              rw [← e.2]
              intro ts
              rw [ztl_app, (ih _ _ _ _ _ (by omega) (by omega) e1).1 (by omega)]
              simp only [ztl]
              rw [zty_j (by split <;> omega)]
              exact (ih _ _ _ _ _ (by omega) j.2.1 e2).2 (by omega) ts
        · rw [if_neg g1] at e
          simp only [Sum.inr.injEq, Prod.mk.injEq] at e
          rw [← e.2]; intro ts; rfl
theorem zxt_ty : ∀ (f : Nat) (md k o k1 : Int) (c : List Int), 0 ≤ k → k ≤ n → zxt t n f md k o = .inr (k1, c) → ((md = 0 ∨ md = 1 ∨ md = 2) → TyT c) ∧ ((md = 3 ∨ md = 4) → ∀ ts, ztl false c (true :: ts) = some (true :: ts)) := by
  intro f
  induction f with
  | zero => intro md k o k1 c h0 h1 e; cases e
  | succ f ih =>
    intro md k o k1 c h0 h1 e
    have hs := @zsk_le k n t h1
    constructor
    · intro hmd
      rcases hmd with g | g | g <;> subst g
      · simp only [zxt, if_true] at e
        have pr := (zxt_pr (t := t) (n := n) f 1 k o h0 h1 (by omega) (by omega)).1
        cases e1 : zxt t n f 1 k o with
        | inl x => rw [e1] at e; cases e
        | inr x =>
          obtain ⟨ka, ca⟩ := x
          have j := pr ka ca e1
          rw [e1] at e; simp only at e
          cases e2 : zxt t n f 3 ka o with
          | inl x => rw [e2] at e; cases e
          | inr x =>
            obtain ⟨kb, cb⟩ := x
            rw [e2] at e
            simp only [Sum.inr.injEq, Prod.mk.injEq] at e
            rw [← e.2]
            intro ts
            rw [ztl_app, (ih _ _ _ _ _ h0 h1 e1).1 (by omega) ts]
            exact (ih _ _ _ _ _ (by omega) j.2.1 e2).2 (by omega) ts
      · simp only [zxt, if_true, if_false, Int.reduceEq] at e
        have pr := (zxt_pr (t := t) (n := n) f 2 k o h0 h1 (by omega) (by omega)).1
        cases e1 : zxt t n f 2 k o with
        | inl x => rw [e1] at e; cases e
        | inr x =>
          obtain ⟨ka, ca⟩ := x
          have j := pr ka ca e1
          rw [e1] at e; simp only at e
          cases e2 : zxt t n f 4 ka o with
          | inl x => rw [e2] at e; cases e
          | inr x =>
            obtain ⟨kb, cb⟩ := x
            rw [e2] at e
            simp only [Sum.inr.injEq, Prod.mk.injEq] at e
            rw [← e.2]
            intro ts
            rw [ztl_app, (ih _ _ _ _ _ h0 h1 e1).1 (by omega) ts]
            exact (ih _ _ _ _ _ (by omega) j.2.1 e2).2 (by omega) ts
      · simp only [zxt, if_false, Int.reduceEq] at e
        by_cases g1 : zB t n (zsk t n k) = 91
        · rw [if_pos g1] at e
          have hlt := zskn (t := t) h1 (by rw [g1]; decide)
          by_cases g2 : o = 6
          · rw [if_pos g2] at e; cases e
          · rw [if_neg g2] at e
            cases e1 : zxt t n f 0 (zsk t n k + 1) (o + 1) with
            | inl x => rw [e1] at e; cases e
            | inr x =>
              obtain ⟨ka, ca⟩ := x
              rw [e1] at e; simp only at e
              by_cases g3 : zB t n (zsk t n ka) = 93
              · rw [if_pos g3] at e
                simp only [Sum.inr.injEq, Prod.mk.injEq] at e
                rw [← e.2]
                exact (ih _ _ _ _ _ (by omega) (by omega) e1).1 (by omega)
              · rw [if_neg g3] at e; cases e
        · rw [if_neg g1] at e
          by_cases g2 : zhw t n (zsk t n k) zwnot = true
          · rw [if_pos g2] at e
            have hw : zsk t n k + 3 ≤ n := (zhw_r hs.2 g2).1
            by_cases g4 : o = 6
            · rw [if_pos g4] at e; cases e
            · rw [if_neg g4] at e
              cases e1 : zxt t n f 2 (zsk t n k + 3) (o + 1) with
              | inl x => rw [e1] at e; cases e
              | inr x =>
                obtain ⟨ka, ca⟩ := x
                rw [e1] at e
                simp only [Sum.inr.injEq, Prod.mk.injEq] at e
                rw [← e.2]
                intro ts
                rw [ztl_app, (ih _ _ _ _ _ (by omega) (by omega) e1).1 (by omega) ts]
                simp only
                rw [ztl_1]; rfl
          · rw [if_neg g2] at e
            by_cases g3 : zhw t n (zsk t n k) zwall = true
            · rw [if_pos g3] at e
              simp only [Sum.inr.injEq, Prod.mk.injEq] at e
              rw [← e.2]
              intro ts; rw [ztl_1]; rfl
            · rw [if_neg g3] at e
              cases e1 : zex false t n (zF n) 0 k o with
              | inl x => rw [e1] at e; cases e
              | inr x =>
                obtain ⟨ka, ca⟩ := x
                have p1 := (zex_pr (hm := false) (t := t) (n := n) (zF n) 0 k o h0 h1 (by omega) (by omega)).1 ka ca e1
                have s1 := @zsk_le ka n t p1.2.1
                rw [e1] at e; simp only at e
                by_cases g5 : zB t n (zsk t n ka) = 60 ∨ zB t n (zsk t n ka) = 62 ∨ zB t n (zsk t n ka) = 61
                · rw [if_pos g5] at e
                  have hlt := zskn (t := t) p1.2.1 (by omega)
                  cases e2 : zex false t n (zF n) 0 (zsk t n ka + 1) o with
                  | inl x => rw [e2] at e; cases e
                  | inr x =>
                    obtain ⟨kb, cb⟩ := x
                    rw [e2] at e
                    simp only [Sum.inr.injEq, Prod.mk.injEq] at e
                    rw [← e.2]
                    intro ts
                    rw [ztl_app, (zex_ty _ _ _ _ _ _ h0 h1 e1).1 (by omega) ts]; simp only
                    rw [ztl_app, (zex_ty _ _ _ _ _ _ (by omega) (by omega) e2).1 (by omega)]; simp only
                    rw [ztl_1]
                    have hop : ∀ v : Int, 7 ≤ v ∧ v ≤ 9 → zty false v (false :: false :: ts) = some (true :: ts) := by
                      intro v hv
                      unfold zty
                      rw [if_neg (by omega), if_neg (by omega), if_neg (by omega), if_neg (fun q => by cases q.1), if_neg (by omega), if_neg (by omega), if_neg (by omega), if_pos hv]
                    exact hop _ (by split; decide; split <;> decide)
                · rw [if_neg g5] at e; cases e
    · intro hmd
      rcases hmd with g | g <;> subst g
      · simp only [zxt, if_true, if_false, Int.reduceEq] at e
        cases gl : zlp t n (zsk t n k)
        rotate_left
        · rw [gl, if_pos rfl] at e; cases e
        rw [gl, if_neg (by decide)] at e
        by_cases g1 : zhw t n (zsk t n k) zwor = true
        · rw [if_pos g1] at e
          have hw : zsk t n k + 2 ≤ n := (zhw_r hs.2 g1).1
          have pr := (zxt_pr (t := t) (n := n) f 1 (zsk t n k + 2) o (by omega) (by omega) (by omega) (by omega)).1
          cases e1 : zxt t n f 1 (zsk t n k + 2) o with
          | inl x => rw [e1] at e; cases e
          | inr x =>
            obtain ⟨ka, ca⟩ := x
            have j := pr ka ca e1
            rw [e1] at e; simp only at e
            cases e2 : zxt t n f 3 ka o with
            | inl x => rw [e2] at e; cases e
            | inr x =>
              obtain ⟨kb, cb⟩ := x
              rw [e2] at e
              simp only [Sum.inr.injEq, Prod.mk.injEq] at e
              rw [← e.2]
              intro ts
              rw [ztl_app, (ih _ _ _ _ _ (by omega) (by omega) e1).1 (by omega)]
              simp only [ztl]
              have : zty false 11 (true :: true :: ts) = some (true :: ts) := rfl
              rw [this]
              exact (ih _ _ _ _ _ (by omega) j.2.1 e2).2 (by omega) ts
        · rw [if_neg g1] at e
          simp only [Sum.inr.injEq, Prod.mk.injEq] at e
          rw [← e.2]; intro ts; rfl
      · simp only [zxt, if_true, if_false, Int.reduceEq] at e
        cases gl : zlp t n (zsk t n k)
        rotate_left
        · rw [gl, if_pos rfl] at e; cases e
        rw [gl, if_neg (by decide)] at e
        by_cases g1 : zhw t n (zsk t n k) zwand = true
        · rw [if_pos g1] at e
          have hw : zsk t n k + 3 ≤ n := (zhw_r hs.2 g1).1
          have pr := (zxt_pr (t := t) (n := n) f 2 (zsk t n k + 3) o (by omega) (by omega) (by omega) (by omega)).1
          cases e1 : zxt t n f 2 (zsk t n k + 3) o with
          | inl x => rw [e1] at e; cases e
          | inr x =>
            obtain ⟨ka, ca⟩ := x
            have j := pr ka ca e1
            rw [e1] at e; simp only at e
            cases e2 : zxt t n f 4 ka o with
            | inl x => rw [e2] at e; cases e
            | inr x =>
              obtain ⟨kb, cb⟩ := x
              rw [e2] at e
              simp only [Sum.inr.injEq, Prod.mk.injEq] at e
              rw [← e.2]
              intro ts
              rw [ztl_app, (ih _ _ _ _ _ (by omega) (by omega) e1).1 (by omega)]
              simp only [ztl]
              have : zty false 10 (true :: true :: ts) = some (true :: ts) := rfl
              rw [this]
              exact (ih _ _ _ _ _ (by omega) j.2.1 e2).2 (by omega) ts
        · rw [if_neg g1] at e
          simp only [Sum.inr.injEq, Prod.mk.injEq] at e
          rw [← e.2]; intro ts; rfl
end TYP
