/-! ===== one row per instruction, printed by gen_wpi.py ===== -/
section WPI
variable {d m : Nat} {is : List AI} {a b : Int} {t : List (Int × Int)} {L : ALoc} {st : AStk} {h : AH} {Q : QQ} {x y z i n : Int} {v : AV}
theorem wp_r {r : ARes} : (∃ n : Nat, ∃ out h', (some r : Option ARes) = some (out, h') ∧ Q out h') ↔ Q r.1 r.2 := ⟨fun ⟨_, _, _, e, q⟩ => by injection e with e; subst e; exact q, fun q => ⟨0, r.1, r.2, rfl, q⟩⟩
theorem wp_n : (∃ n : Nat, ∃ out h', (none : Option ARes) = some (out, h') ∧ Q out h') ↔ False := ⟨fun ⟨_, _, _, e, _⟩ => (by cases e), False.elim⟩
theorem wp_ite {p : Prop} {e : Decidable p} {A B : Nat → Option ARes} {R S : Prop} (hA : (∃ n out h', A n = some (out, h') ∧ Q out h') ↔ R) (hB : (∃ n out h', B n = some (out, h') ∧ Q out h') ↔ S) : (∃ n out h', (if p then A n else B n) = some (out, h') ∧ Q out h') ↔ if p then R else S := by by_cases hp : p <;> simp only [hp, if_true, if_false] <;> assumption
theorem wp_guard {p : Prop} {e : Decidable p} {A : Nat → Option ARes} {R : Prop} (hA : (∃ n out h', A n = some (out, h') ∧ Q out h') ↔ R) : (∃ n out h', (if p then A n else none) = some (out, h') ∧ Q out h') ↔ p ∧ R := by by_cases hp : p <;> simp only [hp, if_true, if_false, true_and, false_and, wp_n] <;> assumption
theorem w_iconst {c} : wpL d m ((.iconst c, a, b, t) :: is) L st h Q ↔ wpL d m is L (.inl a :: st) h Q := Iff.rfl
theorem w_bipush {c} : wpL d m ((.bipush c, a, b, t) :: is) L st h Q ↔ wpL d m is L (.inl a :: st) h Q := Iff.rfl
theorem w_sipush {c} : wpL d m ((.sipush c, a, b, t) :: is) L st h Q ↔ wpL d m is L (.inl a :: st) h Q := Iff.rfl
theorem w_lconst {c} : wpL d m ((.lconst c, a, b, t) :: is) L st h Q ↔ wpL d m is L (.inr (.inl a) :: st) h Q := Iff.rfl
theorem w_ldc2_w {c} : wpL d m ((.ldc2_w c, a, b, t) :: is) L st h Q ↔ wpL d m is L (.inr (.inl a) :: st) h Q := Iff.rfl
theorem w_ldc {c} : wpL d m ((.ldc c, a, b, t) :: is) L st h Q ↔ wpL d m is L (ofK b a :: st) h Q := Iff.rfl
theorem w_ldc_w {c} : wpL d m ((.ldc_w c, a, b, t) :: is) L st h Q ↔ wpL d m is L (ofK b a :: st) h Q := Iff.rfl
theorem w_getstatic {c} : wpL d m ((.getstatic c, a, b, t) :: is) L st h Q ↔ wpL d m is L (ofK b a :: st) h Q := Iff.rfl
theorem w_aconst_null : wpL d m ((.aconst_null, a, b, t) :: is) L st h Q ↔ wpL d m is L (.inr (.inr 0) :: st) h Q := Iff.rfl
theorem w_iload_n_0 : wpL d m ((.iload_n 0, a, b, t) :: is) (some (.inl z) :: L) st h Q ↔ wpL d m is (some (.inl z) :: L) (.inl z :: st) h Q := Iff.rfl
theorem w_iload_0 : wpL d m ((.iload 0, a, b, t) :: is) (some (.inl z) :: L) st h Q ↔ wpL d m is (some (.inl z) :: L) (.inl z :: st) h Q := Iff.rfl
theorem w_lload_n_0 : wpL d m ((.lload_n 0, a, b, t) :: is) (some (.inr (.inl z)) :: L) st h Q ↔ wpL d m is (some (.inr (.inl z)) :: L) (.inr (.inl z) :: st) h Q := Iff.rfl
theorem w_lload_0 : wpL d m ((.lload 0, a, b, t) :: is) (some (.inr (.inl z)) :: L) st h Q ↔ wpL d m is (some (.inr (.inl z)) :: L) (.inr (.inl z) :: st) h Q := Iff.rfl
theorem w_aload_n_0 : wpL d m ((.aload_n 0, a, b, t) :: is) (some (.inr (.inr z)) :: L) st h Q ↔ wpL d m is (some (.inr (.inr z)) :: L) (.inr (.inr z) :: st) h Q := Iff.rfl
theorem w_aload_0 : wpL d m ((.aload 0, a, b, t) :: is) (some (.inr (.inr z)) :: L) st h Q ↔ wpL d m is (some (.inr (.inr z)) :: L) (.inr (.inr z) :: st) h Q := Iff.rfl
theorem w_iinc_0 {c : Int} : wpL d m ((.iinc 0 c, a, b, t) :: is) (some (.inl z) :: L) st h Q ↔ wpL d m is (lst1 (some (.inl z) :: L) 0 (.inl (w32 (z + c)))) st h Q := Iff.rfl
theorem w_iload_n_1 {x0 : Option AV} : wpL d m ((.iload_n 1, a, b, t) :: is) (x0 :: some (.inl z) :: L) st h Q ↔ wpL d m is (x0 :: some (.inl z) :: L) (.inl z :: st) h Q := Iff.rfl
theorem w_iload_1 {x0 : Option AV} : wpL d m ((.iload 1, a, b, t) :: is) (x0 :: some (.inl z) :: L) st h Q ↔ wpL d m is (x0 :: some (.inl z) :: L) (.inl z :: st) h Q := Iff.rfl
theorem w_lload_n_1 {x0 : Option AV} : wpL d m ((.lload_n 1, a, b, t) :: is) (x0 :: some (.inr (.inl z)) :: L) st h Q ↔ wpL d m is (x0 :: some (.inr (.inl z)) :: L) (.inr (.inl z) :: st) h Q := Iff.rfl
theorem w_lload_1 {x0 : Option AV} : wpL d m ((.lload 1, a, b, t) :: is) (x0 :: some (.inr (.inl z)) :: L) st h Q ↔ wpL d m is (x0 :: some (.inr (.inl z)) :: L) (.inr (.inl z) :: st) h Q := Iff.rfl
theorem w_aload_n_1 {x0 : Option AV} : wpL d m ((.aload_n 1, a, b, t) :: is) (x0 :: some (.inr (.inr z)) :: L) st h Q ↔ wpL d m is (x0 :: some (.inr (.inr z)) :: L) (.inr (.inr z) :: st) h Q := Iff.rfl
theorem w_aload_1 {x0 : Option AV} : wpL d m ((.aload 1, a, b, t) :: is) (x0 :: some (.inr (.inr z)) :: L) st h Q ↔ wpL d m is (x0 :: some (.inr (.inr z)) :: L) (.inr (.inr z) :: st) h Q := Iff.rfl
theorem w_iinc_1 {x0 : Option AV} {c : Int} : wpL d m ((.iinc 1 c, a, b, t) :: is) (x0 :: some (.inl z) :: L) st h Q ↔ wpL d m is (lst1 (x0 :: some (.inl z) :: L) 1 (.inl (w32 (z + c)))) st h Q := Iff.rfl
theorem w_iload_n_2 {x0 x1 : Option AV} : wpL d m ((.iload_n 2, a, b, t) :: is) (x0 :: x1 :: some (.inl z) :: L) st h Q ↔ wpL d m is (x0 :: x1 :: some (.inl z) :: L) (.inl z :: st) h Q := Iff.rfl
theorem w_iload_2 {x0 x1 : Option AV} : wpL d m ((.iload 2, a, b, t) :: is) (x0 :: x1 :: some (.inl z) :: L) st h Q ↔ wpL d m is (x0 :: x1 :: some (.inl z) :: L) (.inl z :: st) h Q := Iff.rfl
theorem w_lload_n_2 {x0 x1 : Option AV} : wpL d m ((.lload_n 2, a, b, t) :: is) (x0 :: x1 :: some (.inr (.inl z)) :: L) st h Q ↔ wpL d m is (x0 :: x1 :: some (.inr (.inl z)) :: L) (.inr (.inl z) :: st) h Q := Iff.rfl
theorem w_lload_2 {x0 x1 : Option AV} : wpL d m ((.lload 2, a, b, t) :: is) (x0 :: x1 :: some (.inr (.inl z)) :: L) st h Q ↔ wpL d m is (x0 :: x1 :: some (.inr (.inl z)) :: L) (.inr (.inl z) :: st) h Q := Iff.rfl
theorem w_aload_n_2 {x0 x1 : Option AV} : wpL d m ((.aload_n 2, a, b, t) :: is) (x0 :: x1 :: some (.inr (.inr z)) :: L) st h Q ↔ wpL d m is (x0 :: x1 :: some (.inr (.inr z)) :: L) (.inr (.inr z) :: st) h Q := Iff.rfl
theorem w_aload_2 {x0 x1 : Option AV} : wpL d m ((.aload 2, a, b, t) :: is) (x0 :: x1 :: some (.inr (.inr z)) :: L) st h Q ↔ wpL d m is (x0 :: x1 :: some (.inr (.inr z)) :: L) (.inr (.inr z) :: st) h Q := Iff.rfl
theorem w_iinc_2 {x0 x1 : Option AV} {c : Int} : wpL d m ((.iinc 2 c, a, b, t) :: is) (x0 :: x1 :: some (.inl z) :: L) st h Q ↔ wpL d m is (lst1 (x0 :: x1 :: some (.inl z) :: L) 2 (.inl (w32 (z + c)))) st h Q := Iff.rfl
theorem w_iload_n_3 {x0 x1 x2 : Option AV} : wpL d m ((.iload_n 3, a, b, t) :: is) (x0 :: x1 :: x2 :: some (.inl z) :: L) st h Q ↔ wpL d m is (x0 :: x1 :: x2 :: some (.inl z) :: L) (.inl z :: st) h Q := Iff.rfl
theorem w_iload_3 {x0 x1 x2 : Option AV} : wpL d m ((.iload 3, a, b, t) :: is) (x0 :: x1 :: x2 :: some (.inl z) :: L) st h Q ↔ wpL d m is (x0 :: x1 :: x2 :: some (.inl z) :: L) (.inl z :: st) h Q := Iff.rfl
theorem w_lload_n_3 {x0 x1 x2 : Option AV} : wpL d m ((.lload_n 3, a, b, t) :: is) (x0 :: x1 :: x2 :: some (.inr (.inl z)) :: L) st h Q ↔ wpL d m is (x0 :: x1 :: x2 :: some (.inr (.inl z)) :: L) (.inr (.inl z) :: st) h Q := Iff.rfl
theorem w_lload_3 {x0 x1 x2 : Option AV} : wpL d m ((.lload 3, a, b, t) :: is) (x0 :: x1 :: x2 :: some (.inr (.inl z)) :: L) st h Q ↔ wpL d m is (x0 :: x1 :: x2 :: some (.inr (.inl z)) :: L) (.inr (.inl z) :: st) h Q := Iff.rfl
theorem w_aload_n_3 {x0 x1 x2 : Option AV} : wpL d m ((.aload_n 3, a, b, t) :: is) (x0 :: x1 :: x2 :: some (.inr (.inr z)) :: L) st h Q ↔ wpL d m is (x0 :: x1 :: x2 :: some (.inr (.inr z)) :: L) (.inr (.inr z) :: st) h Q := Iff.rfl
theorem w_aload_3 {x0 x1 x2 : Option AV} : wpL d m ((.aload 3, a, b, t) :: is) (x0 :: x1 :: x2 :: some (.inr (.inr z)) :: L) st h Q ↔ wpL d m is (x0 :: x1 :: x2 :: some (.inr (.inr z)) :: L) (.inr (.inr z) :: st) h Q := Iff.rfl
theorem w_iinc_3 {x0 x1 x2 : Option AV} {c : Int} : wpL d m ((.iinc 3 c, a, b, t) :: is) (x0 :: x1 :: x2 :: some (.inl z) :: L) st h Q ↔ wpL d m is (lst1 (x0 :: x1 :: x2 :: some (.inl z) :: L) 3 (.inl (w32 (z + c)))) st h Q := Iff.rfl
theorem w_iload_4 {x0 x1 x2 x3 : Option AV} : wpL d m ((.iload 4, a, b, t) :: is) (x0 :: x1 :: x2 :: x3 :: some (.inl z) :: L) st h Q ↔ wpL d m is (x0 :: x1 :: x2 :: x3 :: some (.inl z) :: L) (.inl z :: st) h Q := Iff.rfl
theorem w_lload_4 {x0 x1 x2 x3 : Option AV} : wpL d m ((.lload 4, a, b, t) :: is) (x0 :: x1 :: x2 :: x3 :: some (.inr (.inl z)) :: L) st h Q ↔ wpL d m is (x0 :: x1 :: x2 :: x3 :: some (.inr (.inl z)) :: L) (.inr (.inl z) :: st) h Q := Iff.rfl
theorem w_aload_4 {x0 x1 x2 x3 : Option AV} : wpL d m ((.aload 4, a, b, t) :: is) (x0 :: x1 :: x2 :: x3 :: some (.inr (.inr z)) :: L) st h Q ↔ wpL d m is (x0 :: x1 :: x2 :: x3 :: some (.inr (.inr z)) :: L) (.inr (.inr z) :: st) h Q := Iff.rfl
theorem w_iinc_4 {x0 x1 x2 x3 : Option AV} {c : Int} : wpL d m ((.iinc 4 c, a, b, t) :: is) (x0 :: x1 :: x2 :: x3 :: some (.inl z) :: L) st h Q ↔ wpL d m is (lst1 (x0 :: x1 :: x2 :: x3 :: some (.inl z) :: L) 4 (.inl (w32 (z + c)))) st h Q := Iff.rfl
theorem w_iload_5 {x0 x1 x2 x3 x4 : Option AV} : wpL d m ((.iload 5, a, b, t) :: is) (x0 :: x1 :: x2 :: x3 :: x4 :: some (.inl z) :: L) st h Q ↔ wpL d m is (x0 :: x1 :: x2 :: x3 :: x4 :: some (.inl z) :: L) (.inl z :: st) h Q := Iff.rfl
theorem w_lload_5 {x0 x1 x2 x3 x4 : Option AV} : wpL d m ((.lload 5, a, b, t) :: is) (x0 :: x1 :: x2 :: x3 :: x4 :: some (.inr (.inl z)) :: L) st h Q ↔ wpL d m is (x0 :: x1 :: x2 :: x3 :: x4 :: some (.inr (.inl z)) :: L) (.inr (.inl z) :: st) h Q := Iff.rfl
theorem w_aload_5 {x0 x1 x2 x3 x4 : Option AV} : wpL d m ((.aload 5, a, b, t) :: is) (x0 :: x1 :: x2 :: x3 :: x4 :: some (.inr (.inr z)) :: L) st h Q ↔ wpL d m is (x0 :: x1 :: x2 :: x3 :: x4 :: some (.inr (.inr z)) :: L) (.inr (.inr z) :: st) h Q := Iff.rfl
theorem w_iinc_5 {x0 x1 x2 x3 x4 : Option AV} {c : Int} : wpL d m ((.iinc 5 c, a, b, t) :: is) (x0 :: x1 :: x2 :: x3 :: x4 :: some (.inl z) :: L) st h Q ↔ wpL d m is (lst1 (x0 :: x1 :: x2 :: x3 :: x4 :: some (.inl z) :: L) 5 (.inl (w32 (z + c)))) st h Q := Iff.rfl
theorem w_iload_6 {x0 x1 x2 x3 x4 x5 : Option AV} : wpL d m ((.iload 6, a, b, t) :: is) (x0 :: x1 :: x2 :: x3 :: x4 :: x5 :: some (.inl z) :: L) st h Q ↔ wpL d m is (x0 :: x1 :: x2 :: x3 :: x4 :: x5 :: some (.inl z) :: L) (.inl z :: st) h Q := Iff.rfl
theorem w_lload_6 {x0 x1 x2 x3 x4 x5 : Option AV} : wpL d m ((.lload 6, a, b, t) :: is) (x0 :: x1 :: x2 :: x3 :: x4 :: x5 :: some (.inr (.inl z)) :: L) st h Q ↔ wpL d m is (x0 :: x1 :: x2 :: x3 :: x4 :: x5 :: some (.inr (.inl z)) :: L) (.inr (.inl z) :: st) h Q := Iff.rfl
theorem w_aload_6 {x0 x1 x2 x3 x4 x5 : Option AV} : wpL d m ((.aload 6, a, b, t) :: is) (x0 :: x1 :: x2 :: x3 :: x4 :: x5 :: some (.inr (.inr z)) :: L) st h Q ↔ wpL d m is (x0 :: x1 :: x2 :: x3 :: x4 :: x5 :: some (.inr (.inr z)) :: L) (.inr (.inr z) :: st) h Q := Iff.rfl
theorem w_iinc_6 {x0 x1 x2 x3 x4 x5 : Option AV} {c : Int} : wpL d m ((.iinc 6 c, a, b, t) :: is) (x0 :: x1 :: x2 :: x3 :: x4 :: x5 :: some (.inl z) :: L) st h Q ↔ wpL d m is (lst1 (x0 :: x1 :: x2 :: x3 :: x4 :: x5 :: some (.inl z) :: L) 6 (.inl (w32 (z + c)))) st h Q := Iff.rfl
theorem w_iload_7 {x0 x1 x2 x3 x4 x5 x6 : Option AV} : wpL d m ((.iload 7, a, b, t) :: is) (x0 :: x1 :: x2 :: x3 :: x4 :: x5 :: x6 :: some (.inl z) :: L) st h Q ↔ wpL d m is (x0 :: x1 :: x2 :: x3 :: x4 :: x5 :: x6 :: some (.inl z) :: L) (.inl z :: st) h Q := Iff.rfl
theorem w_lload_7 {x0 x1 x2 x3 x4 x5 x6 : Option AV} : wpL d m ((.lload 7, a, b, t) :: is) (x0 :: x1 :: x2 :: x3 :: x4 :: x5 :: x6 :: some (.inr (.inl z)) :: L) st h Q ↔ wpL d m is (x0 :: x1 :: x2 :: x3 :: x4 :: x5 :: x6 :: some (.inr (.inl z)) :: L) (.inr (.inl z) :: st) h Q := Iff.rfl
theorem w_aload_7 {x0 x1 x2 x3 x4 x5 x6 : Option AV} : wpL d m ((.aload 7, a, b, t) :: is) (x0 :: x1 :: x2 :: x3 :: x4 :: x5 :: x6 :: some (.inr (.inr z)) :: L) st h Q ↔ wpL d m is (x0 :: x1 :: x2 :: x3 :: x4 :: x5 :: x6 :: some (.inr (.inr z)) :: L) (.inr (.inr z) :: st) h Q := Iff.rfl
theorem w_iinc_7 {x0 x1 x2 x3 x4 x5 x6 : Option AV} {c : Int} : wpL d m ((.iinc 7 c, a, b, t) :: is) (x0 :: x1 :: x2 :: x3 :: x4 :: x5 :: x6 :: some (.inl z) :: L) st h Q ↔ wpL d m is (lst1 (x0 :: x1 :: x2 :: x3 :: x4 :: x5 :: x6 :: some (.inl z) :: L) 7 (.inl (w32 (z + c)))) st h Q := Iff.rfl
theorem w_iload_8 {x0 x1 x2 x3 x4 x5 x6 x7 : Option AV} : wpL d m ((.iload 8, a, b, t) :: is) (x0 :: x1 :: x2 :: x3 :: x4 :: x5 :: x6 :: x7 :: some (.inl z) :: L) st h Q ↔ wpL d m is (x0 :: x1 :: x2 :: x3 :: x4 :: x5 :: x6 :: x7 :: some (.inl z) :: L) (.inl z :: st) h Q := Iff.rfl
theorem w_lload_8 {x0 x1 x2 x3 x4 x5 x6 x7 : Option AV} : wpL d m ((.lload 8, a, b, t) :: is) (x0 :: x1 :: x2 :: x3 :: x4 :: x5 :: x6 :: x7 :: some (.inr (.inl z)) :: L) st h Q ↔ wpL d m is (x0 :: x1 :: x2 :: x3 :: x4 :: x5 :: x6 :: x7 :: some (.inr (.inl z)) :: L) (.inr (.inl z) :: st) h Q := Iff.rfl
theorem w_aload_8 {x0 x1 x2 x3 x4 x5 x6 x7 : Option AV} : wpL d m ((.aload 8, a, b, t) :: is) (x0 :: x1 :: x2 :: x3 :: x4 :: x5 :: x6 :: x7 :: some (.inr (.inr z)) :: L) st h Q ↔ wpL d m is (x0 :: x1 :: x2 :: x3 :: x4 :: x5 :: x6 :: x7 :: some (.inr (.inr z)) :: L) (.inr (.inr z) :: st) h Q := Iff.rfl
theorem w_iinc_8 {x0 x1 x2 x3 x4 x5 x6 x7 : Option AV} {c : Int} : wpL d m ((.iinc 8 c, a, b, t) :: is) (x0 :: x1 :: x2 :: x3 :: x4 :: x5 :: x6 :: x7 :: some (.inl z) :: L) st h Q ↔ wpL d m is (lst1 (x0 :: x1 :: x2 :: x3 :: x4 :: x5 :: x6 :: x7 :: some (.inl z) :: L) 8 (.inl (w32 (z + c)))) st h Q := Iff.rfl
theorem w_iload_9 {x0 x1 x2 x3 x4 x5 x6 x7 x8 : Option AV} : wpL d m ((.iload 9, a, b, t) :: is) (x0 :: x1 :: x2 :: x3 :: x4 :: x5 :: x6 :: x7 :: x8 :: some (.inl z) :: L) st h Q ↔ wpL d m is (x0 :: x1 :: x2 :: x3 :: x4 :: x5 :: x6 :: x7 :: x8 :: some (.inl z) :: L) (.inl z :: st) h Q := Iff.rfl
theorem w_lload_9 {x0 x1 x2 x3 x4 x5 x6 x7 x8 : Option AV} : wpL d m ((.lload 9, a, b, t) :: is) (x0 :: x1 :: x2 :: x3 :: x4 :: x5 :: x6 :: x7 :: x8 :: some (.inr (.inl z)) :: L) st h Q ↔ wpL d m is (x0 :: x1 :: x2 :: x3 :: x4 :: x5 :: x6 :: x7 :: x8 :: some (.inr (.inl z)) :: L) (.inr (.inl z) :: st) h Q := Iff.rfl
theorem w_aload_9 {x0 x1 x2 x3 x4 x5 x6 x7 x8 : Option AV} : wpL d m ((.aload 9, a, b, t) :: is) (x0 :: x1 :: x2 :: x3 :: x4 :: x5 :: x6 :: x7 :: x8 :: some (.inr (.inr z)) :: L) st h Q ↔ wpL d m is (x0 :: x1 :: x2 :: x3 :: x4 :: x5 :: x6 :: x7 :: x8 :: some (.inr (.inr z)) :: L) (.inr (.inr z) :: st) h Q := Iff.rfl
theorem w_iinc_9 {x0 x1 x2 x3 x4 x5 x6 x7 x8 : Option AV} {c : Int} : wpL d m ((.iinc 9 c, a, b, t) :: is) (x0 :: x1 :: x2 :: x3 :: x4 :: x5 :: x6 :: x7 :: x8 :: some (.inl z) :: L) st h Q ↔ wpL d m is (lst1 (x0 :: x1 :: x2 :: x3 :: x4 :: x5 :: x6 :: x7 :: x8 :: some (.inl z) :: L) 9 (.inl (w32 (z + c)))) st h Q := Iff.rfl
theorem w_iload_10 {x0 x1 x2 x3 x4 x5 x6 x7 x8 x9 : Option AV} : wpL d m ((.iload 10, a, b, t) :: is) (x0 :: x1 :: x2 :: x3 :: x4 :: x5 :: x6 :: x7 :: x8 :: x9 :: some (.inl z) :: L) st h Q ↔ wpL d m is (x0 :: x1 :: x2 :: x3 :: x4 :: x5 :: x6 :: x7 :: x8 :: x9 :: some (.inl z) :: L) (.inl z :: st) h Q := Iff.rfl
theorem w_lload_10 {x0 x1 x2 x3 x4 x5 x6 x7 x8 x9 : Option AV} : wpL d m ((.lload 10, a, b, t) :: is) (x0 :: x1 :: x2 :: x3 :: x4 :: x5 :: x6 :: x7 :: x8 :: x9 :: some (.inr (.inl z)) :: L) st h Q ↔ wpL d m is (x0 :: x1 :: x2 :: x3 :: x4 :: x5 :: x6 :: x7 :: x8 :: x9 :: some (.inr (.inl z)) :: L) (.inr (.inl z) :: st) h Q := Iff.rfl
theorem w_aload_10 {x0 x1 x2 x3 x4 x5 x6 x7 x8 x9 : Option AV} : wpL d m ((.aload 10, a, b, t) :: is) (x0 :: x1 :: x2 :: x3 :: x4 :: x5 :: x6 :: x7 :: x8 :: x9 :: some (.inr (.inr z)) :: L) st h Q ↔ wpL d m is (x0 :: x1 :: x2 :: x3 :: x4 :: x5 :: x6 :: x7 :: x8 :: x9 :: some (.inr (.inr z)) :: L) (.inr (.inr z) :: st) h Q := Iff.rfl
theorem w_iinc_10 {x0 x1 x2 x3 x4 x5 x6 x7 x8 x9 : Option AV} {c : Int} : wpL d m ((.iinc 10 c, a, b, t) :: is) (x0 :: x1 :: x2 :: x3 :: x4 :: x5 :: x6 :: x7 :: x8 :: x9 :: some (.inl z) :: L) st h Q ↔ wpL d m is (lst1 (x0 :: x1 :: x2 :: x3 :: x4 :: x5 :: x6 :: x7 :: x8 :: x9 :: some (.inl z) :: L) 10 (.inl (w32 (z + c)))) st h Q := Iff.rfl
theorem w_iload_11 {x0 x1 x2 x3 x4 x5 x6 x7 x8 x9 x10 : Option AV} : wpL d m ((.iload 11, a, b, t) :: is) (x0 :: x1 :: x2 :: x3 :: x4 :: x5 :: x6 :: x7 :: x8 :: x9 :: x10 :: some (.inl z) :: L) st h Q ↔ wpL d m is (x0 :: x1 :: x2 :: x3 :: x4 :: x5 :: x6 :: x7 :: x8 :: x9 :: x10 :: some (.inl z) :: L) (.inl z :: st) h Q := Iff.rfl
theorem w_lload_11 {x0 x1 x2 x3 x4 x5 x6 x7 x8 x9 x10 : Option AV} : wpL d m ((.lload 11, a, b, t) :: is) (x0 :: x1 :: x2 :: x3 :: x4 :: x5 :: x6 :: x7 :: x8 :: x9 :: x10 :: some (.inr (.inl z)) :: L) st h Q ↔ wpL d m is (x0 :: x1 :: x2 :: x3 :: x4 :: x5 :: x6 :: x7 :: x8 :: x9 :: x10 :: some (.inr (.inl z)) :: L) (.inr (.inl z) :: st) h Q := Iff.rfl
theorem w_aload_11 {x0 x1 x2 x3 x4 x5 x6 x7 x8 x9 x10 : Option AV} : wpL d m ((.aload 11, a, b, t) :: is) (x0 :: x1 :: x2 :: x3 :: x4 :: x5 :: x6 :: x7 :: x8 :: x9 :: x10 :: some (.inr (.inr z)) :: L) st h Q ↔ wpL d m is (x0 :: x1 :: x2 :: x3 :: x4 :: x5 :: x6 :: x7 :: x8 :: x9 :: x10 :: some (.inr (.inr z)) :: L) (.inr (.inr z) :: st) h Q := Iff.rfl
theorem w_iinc_11 {x0 x1 x2 x3 x4 x5 x6 x7 x8 x9 x10 : Option AV} {c : Int} : wpL d m ((.iinc 11 c, a, b, t) :: is) (x0 :: x1 :: x2 :: x3 :: x4 :: x5 :: x6 :: x7 :: x8 :: x9 :: x10 :: some (.inl z) :: L) st h Q ↔ wpL d m is (lst1 (x0 :: x1 :: x2 :: x3 :: x4 :: x5 :: x6 :: x7 :: x8 :: x9 :: x10 :: some (.inl z) :: L) 11 (.inl (w32 (z + c)))) st h Q := Iff.rfl
theorem w_iload_12 {x0 x1 x2 x3 x4 x5 x6 x7 x8 x9 x10 x11 : Option AV} : wpL d m ((.iload 12, a, b, t) :: is) (x0 :: x1 :: x2 :: x3 :: x4 :: x5 :: x6 :: x7 :: x8 :: x9 :: x10 :: x11 :: some (.inl z) :: L) st h Q ↔ wpL d m is (x0 :: x1 :: x2 :: x3 :: x4 :: x5 :: x6 :: x7 :: x8 :: x9 :: x10 :: x11 :: some (.inl z) :: L) (.inl z :: st) h Q := Iff.rfl
theorem w_lload_12 {x0 x1 x2 x3 x4 x5 x6 x7 x8 x9 x10 x11 : Option AV} : wpL d m ((.lload 12, a, b, t) :: is) (x0 :: x1 :: x2 :: x3 :: x4 :: x5 :: x6 :: x7 :: x8 :: x9 :: x10 :: x11 :: some (.inr (.inl z)) :: L) st h Q ↔ wpL d m is (x0 :: x1 :: x2 :: x3 :: x4 :: x5 :: x6 :: x7 :: x8 :: x9 :: x10 :: x11 :: some (.inr (.inl z)) :: L) (.inr (.inl z) :: st) h Q := Iff.rfl
theorem w_aload_12 {x0 x1 x2 x3 x4 x5 x6 x7 x8 x9 x10 x11 : Option AV} : wpL d m ((.aload 12, a, b, t) :: is) (x0 :: x1 :: x2 :: x3 :: x4 :: x5 :: x6 :: x7 :: x8 :: x9 :: x10 :: x11 :: some (.inr (.inr z)) :: L) st h Q ↔ wpL d m is (x0 :: x1 :: x2 :: x3 :: x4 :: x5 :: x6 :: x7 :: x8 :: x9 :: x10 :: x11 :: some (.inr (.inr z)) :: L) (.inr (.inr z) :: st) h Q := Iff.rfl
theorem w_iinc_12 {x0 x1 x2 x3 x4 x5 x6 x7 x8 x9 x10 x11 : Option AV} {c : Int} : wpL d m ((.iinc 12 c, a, b, t) :: is) (x0 :: x1 :: x2 :: x3 :: x4 :: x5 :: x6 :: x7 :: x8 :: x9 :: x10 :: x11 :: some (.inl z) :: L) st h Q ↔ wpL d m is (lst1 (x0 :: x1 :: x2 :: x3 :: x4 :: x5 :: x6 :: x7 :: x8 :: x9 :: x10 :: x11 :: some (.inl z) :: L) 12 (.inl (w32 (z + c)))) st h Q := Iff.rfl
theorem w_iload_13 {x0 x1 x2 x3 x4 x5 x6 x7 x8 x9 x10 x11 x12 : Option AV} : wpL d m ((.iload 13, a, b, t) :: is) (x0 :: x1 :: x2 :: x3 :: x4 :: x5 :: x6 :: x7 :: x8 :: x9 :: x10 :: x11 :: x12 :: some (.inl z) :: L) st h Q ↔ wpL d m is (x0 :: x1 :: x2 :: x3 :: x4 :: x5 :: x6 :: x7 :: x8 :: x9 :: x10 :: x11 :: x12 :: some (.inl z) :: L) (.inl z :: st) h Q := Iff.rfl
theorem w_lload_13 {x0 x1 x2 x3 x4 x5 x6 x7 x8 x9 x10 x11 x12 : Option AV} : wpL d m ((.lload 13, a, b, t) :: is) (x0 :: x1 :: x2 :: x3 :: x4 :: x5 :: x6 :: x7 :: x8 :: x9 :: x10 :: x11 :: x12 :: some (.inr (.inl z)) :: L) st h Q ↔ wpL d m is (x0 :: x1 :: x2 :: x3 :: x4 :: x5 :: x6 :: x7 :: x8 :: x9 :: x10 :: x11 :: x12 :: some (.inr (.inl z)) :: L) (.inr (.inl z) :: st) h Q := Iff.rfl
theorem w_aload_13 {x0 x1 x2 x3 x4 x5 x6 x7 x8 x9 x10 x11 x12 : Option AV} : wpL d m ((.aload 13, a, b, t) :: is) (x0 :: x1 :: x2 :: x3 :: x4 :: x5 :: x6 :: x7 :: x8 :: x9 :: x10 :: x11 :: x12 :: some (.inr (.inr z)) :: L) st h Q ↔ wpL d m is (x0 :: x1 :: x2 :: x3 :: x4 :: x5 :: x6 :: x7 :: x8 :: x9 :: x10 :: x11 :: x12 :: some (.inr (.inr z)) :: L) (.inr (.inr z) :: st) h Q := Iff.rfl
theorem w_iinc_13 {x0 x1 x2 x3 x4 x5 x6 x7 x8 x9 x10 x11 x12 : Option AV} {c : Int} : wpL d m ((.iinc 13 c, a, b, t) :: is) (x0 :: x1 :: x2 :: x3 :: x4 :: x5 :: x6 :: x7 :: x8 :: x9 :: x10 :: x11 :: x12 :: some (.inl z) :: L) st h Q ↔ wpL d m is (lst1 (x0 :: x1 :: x2 :: x3 :: x4 :: x5 :: x6 :: x7 :: x8 :: x9 :: x10 :: x11 :: x12 :: some (.inl z) :: L) 13 (.inl (w32 (z + c)))) st h Q := Iff.rfl
theorem w_iload_14 {x0 x1 x2 x3 x4 x5 x6 x7 x8 x9 x10 x11 x12 x13 : Option AV} : wpL d m ((.iload 14, a, b, t) :: is) (x0 :: x1 :: x2 :: x3 :: x4 :: x5 :: x6 :: x7 :: x8 :: x9 :: x10 :: x11 :: x12 :: x13 :: some (.inl z) :: L) st h Q ↔ wpL d m is (x0 :: x1 :: x2 :: x3 :: x4 :: x5 :: x6 :: x7 :: x8 :: x9 :: x10 :: x11 :: x12 :: x13 :: some (.inl z) :: L) (.inl z :: st) h Q := Iff.rfl
theorem w_lload_14 {x0 x1 x2 x3 x4 x5 x6 x7 x8 x9 x10 x11 x12 x13 : Option AV} : wpL d m ((.lload 14, a, b, t) :: is) (x0 :: x1 :: x2 :: x3 :: x4 :: x5 :: x6 :: x7 :: x8 :: x9 :: x10 :: x11 :: x12 :: x13 :: some (.inr (.inl z)) :: L) st h Q ↔ wpL d m is (x0 :: x1 :: x2 :: x3 :: x4 :: x5 :: x6 :: x7 :: x8 :: x9 :: x10 :: x11 :: x12 :: x13 :: some (.inr (.inl z)) :: L) (.inr (.inl z) :: st) h Q := Iff.rfl
theorem w_aload_14 {x0 x1 x2 x3 x4 x5 x6 x7 x8 x9 x10 x11 x12 x13 : Option AV} : wpL d m ((.aload 14, a, b, t) :: is) (x0 :: x1 :: x2 :: x3 :: x4 :: x5 :: x6 :: x7 :: x8 :: x9 :: x10 :: x11 :: x12 :: x13 :: some (.inr (.inr z)) :: L) st h Q ↔ wpL d m is (x0 :: x1 :: x2 :: x3 :: x4 :: x5 :: x6 :: x7 :: x8 :: x9 :: x10 :: x11 :: x12 :: x13 :: some (.inr (.inr z)) :: L) (.inr (.inr z) :: st) h Q := Iff.rfl
theorem w_iinc_14 {x0 x1 x2 x3 x4 x5 x6 x7 x8 x9 x10 x11 x12 x13 : Option AV} {c : Int} : wpL d m ((.iinc 14 c, a, b, t) :: is) (x0 :: x1 :: x2 :: x3 :: x4 :: x5 :: x6 :: x7 :: x8 :: x9 :: x10 :: x11 :: x12 :: x13 :: some (.inl z) :: L) st h Q ↔ wpL d m is (lst1 (x0 :: x1 :: x2 :: x3 :: x4 :: x5 :: x6 :: x7 :: x8 :: x9 :: x10 :: x11 :: x12 :: x13 :: some (.inl z) :: L) 14 (.inl (w32 (z + c)))) st h Q := Iff.rfl
theorem w_iload_15 {x0 x1 x2 x3 x4 x5 x6 x7 x8 x9 x10 x11 x12 x13 x14 : Option AV} : wpL d m ((.iload 15, a, b, t) :: is) (x0 :: x1 :: x2 :: x3 :: x4 :: x5 :: x6 :: x7 :: x8 :: x9 :: x10 :: x11 :: x12 :: x13 :: x14 :: some (.inl z) :: L) st h Q ↔ wpL d m is (x0 :: x1 :: x2 :: x3 :: x4 :: x5 :: x6 :: x7 :: x8 :: x9 :: x10 :: x11 :: x12 :: x13 :: x14 :: some (.inl z) :: L) (.inl z :: st) h Q := Iff.rfl
theorem w_lload_15 {x0 x1 x2 x3 x4 x5 x6 x7 x8 x9 x10 x11 x12 x13 x14 : Option AV} : wpL d m ((.lload 15, a, b, t) :: is) (x0 :: x1 :: x2 :: x3 :: x4 :: x5 :: x6 :: x7 :: x8 :: x9 :: x10 :: x11 :: x12 :: x13 :: x14 :: some (.inr (.inl z)) :: L) st h Q ↔ wpL d m is (x0 :: x1 :: x2 :: x3 :: x4 :: x5 :: x6 :: x7 :: x8 :: x9 :: x10 :: x11 :: x12 :: x13 :: x14 :: some (.inr (.inl z)) :: L) (.inr (.inl z) :: st) h Q := Iff.rfl
theorem w_aload_15 {x0 x1 x2 x3 x4 x5 x6 x7 x8 x9 x10 x11 x12 x13 x14 : Option AV} : wpL d m ((.aload 15, a, b, t) :: is) (x0 :: x1 :: x2 :: x3 :: x4 :: x5 :: x6 :: x7 :: x8 :: x9 :: x10 :: x11 :: x12 :: x13 :: x14 :: some (.inr (.inr z)) :: L) st h Q ↔ wpL d m is (x0 :: x1 :: x2 :: x3 :: x4 :: x5 :: x6 :: x7 :: x8 :: x9 :: x10 :: x11 :: x12 :: x13 :: x14 :: some (.inr (.inr z)) :: L) (.inr (.inr z) :: st) h Q := Iff.rfl
theorem w_iinc_15 {x0 x1 x2 x3 x4 x5 x6 x7 x8 x9 x10 x11 x12 x13 x14 : Option AV} {c : Int} : wpL d m ((.iinc 15 c, a, b, t) :: is) (x0 :: x1 :: x2 :: x3 :: x4 :: x5 :: x6 :: x7 :: x8 :: x9 :: x10 :: x11 :: x12 :: x13 :: x14 :: some (.inl z) :: L) st h Q ↔ wpL d m is (lst1 (x0 :: x1 :: x2 :: x3 :: x4 :: x5 :: x6 :: x7 :: x8 :: x9 :: x10 :: x11 :: x12 :: x13 :: x14 :: some (.inl z) :: L) 15 (.inl (w32 (z + c)))) st h Q := Iff.rfl
theorem w_istore {k : Nat} : wpL d m ((.istore k, a, b, t) :: is) L (.inl z :: st) h Q ↔ wpL d m is (lst1 L k (.inl z)) st h Q := Iff.rfl
theorem w_istore_n_0 : wpL d m ((.istore_n 0, a, b, t) :: is) L (.inl z :: st) h Q ↔ wpL d m is (lst1 L 0 (.inl z)) st h Q := Iff.rfl
theorem w_istore_n_1 : wpL d m ((.istore_n 1, a, b, t) :: is) L (.inl z :: st) h Q ↔ wpL d m is (lst1 L 1 (.inl z)) st h Q := Iff.rfl
theorem w_istore_n_2 : wpL d m ((.istore_n 2, a, b, t) :: is) L (.inl z :: st) h Q ↔ wpL d m is (lst1 L 2 (.inl z)) st h Q := Iff.rfl
theorem w_istore_n_3 : wpL d m ((.istore_n 3, a, b, t) :: is) L (.inl z :: st) h Q ↔ wpL d m is (lst1 L 3 (.inl z)) st h Q := Iff.rfl
theorem w_lstore {k : Nat} : wpL d m ((.lstore k, a, b, t) :: is) L (.inr (.inl z) :: st) h Q ↔ wpL d m is (lst2 L k (.inr (.inl z))) st h Q := Iff.rfl
theorem w_lstore_n_0 : wpL d m ((.lstore_n 0, a, b, t) :: is) L (.inr (.inl z) :: st) h Q ↔ wpL d m is (lst2 L 0 (.inr (.inl z))) st h Q := Iff.rfl
theorem w_lstore_n_1 : wpL d m ((.lstore_n 1, a, b, t) :: is) L (.inr (.inl z) :: st) h Q ↔ wpL d m is (lst2 L 1 (.inr (.inl z))) st h Q := Iff.rfl
theorem w_lstore_n_2 : wpL d m ((.lstore_n 2, a, b, t) :: is) L (.inr (.inl z) :: st) h Q ↔ wpL d m is (lst2 L 2 (.inr (.inl z))) st h Q := Iff.rfl
theorem w_lstore_n_3 : wpL d m ((.lstore_n 3, a, b, t) :: is) L (.inr (.inl z) :: st) h Q ↔ wpL d m is (lst2 L 3 (.inr (.inl z))) st h Q := Iff.rfl
theorem w_astore {k : Nat} : wpL d m ((.astore k, a, b, t) :: is) L (.inr (.inr z) :: st) h Q ↔ wpL d m is (lst1 L k (.inr (.inr z))) st h Q := Iff.rfl
theorem w_astore_n_0 : wpL d m ((.astore_n 0, a, b, t) :: is) L (.inr (.inr z) :: st) h Q ↔ wpL d m is (lst1 L 0 (.inr (.inr z))) st h Q := Iff.rfl
theorem w_astore_n_1 : wpL d m ((.astore_n 1, a, b, t) :: is) L (.inr (.inr z) :: st) h Q ↔ wpL d m is (lst1 L 1 (.inr (.inr z))) st h Q := Iff.rfl
theorem w_astore_n_2 : wpL d m ((.astore_n 2, a, b, t) :: is) L (.inr (.inr z) :: st) h Q ↔ wpL d m is (lst1 L 2 (.inr (.inr z))) st h Q := Iff.rfl
theorem w_astore_n_3 : wpL d m ((.astore_n 3, a, b, t) :: is) L (.inr (.inr z) :: st) h Q ↔ wpL d m is (lst1 L 3 (.inr (.inr z))) st h Q := Iff.rfl
theorem w_dup_i : wpL d m ((.dup, a, b, t) :: is) L (.inl z :: st) h Q ↔ wpL d m is L (.inl z :: .inl z :: st) h Q := Iff.rfl
theorem w_dup_a : wpL d m ((.dup, a, b, t) :: is) L (.inr (.inr z) :: st) h Q ↔ wpL d m is L (.inr (.inr z) :: .inr (.inr z) :: st) h Q := Iff.rfl
theorem w_dup_x1 : wpL d m ((.dup_x1, a, b, t) :: is) L (.inl z :: .inr (.inr y) :: st) h Q ↔ wpL d m is L (.inl z :: .inr (.inr y) :: .inl z :: st) h Q := Iff.rfl
theorem w_dup_x1a : wpL d m ((.dup_x1, a, b, t) :: is) L (.inr (.inr z) :: .inr (.inr y) :: st) h Q ↔ wpL d m is L (.inr (.inr z) :: .inr (.inr y) :: .inr (.inr z) :: st) h Q := Iff.rfl
theorem w_dup2 : wpL d m ((.dup2, a, b, t) :: is) L (.inl z :: .inr (.inr y) :: st) h Q ↔ wpL d m is L (.inl z :: .inr (.inr y) :: .inl z :: .inr (.inr y) :: st) h Q := Iff.rfl
theorem w_pop_i : wpL d m ((.pop, a, b, t) :: is) L (.inl z :: st) h Q ↔ wpL d m is L st h Q := Iff.rfl
theorem w_pop_a : wpL d m ((.pop, a, b, t) :: is) L (.inr (.inr z) :: st) h Q ↔ wpL d m is L st h Q := Iff.rfl
theorem w_iadd : wpL d m ((.iadd, a, b, t) :: is) L (.inl y :: .inl x :: st) h Q ↔ wpL d m is L (.inl (w32 (x + y)) :: st) h Q := Iff.rfl
theorem w_isub : wpL d m ((.isub, a, b, t) :: is) L (.inl y :: .inl x :: st) h Q ↔ wpL d m is L (.inl (w32 (x - y)) :: st) h Q := Iff.rfl
theorem w_imul : wpL d m ((.imul, a, b, t) :: is) L (.inl y :: .inl x :: st) h Q ↔ wpL d m is L (.inl (w32 (x * y)) :: st) h Q := Iff.rfl
theorem w_iand : wpL d m ((.iand, a, b, t) :: is) L (.inl y :: .inl x :: st) h Q ↔ wpL d m is L (.inl (iand_ x y) :: st) h Q := Iff.rfl
theorem w_ior : wpL d m ((.ior, a, b, t) :: is) L (.inl y :: .inl x :: st) h Q ↔ wpL d m is L (.inl (ior_ x y) :: st) h Q := Iff.rfl
theorem w_ishl : wpL d m ((.ishl, a, b, t) :: is) L (.inl y :: .inl x :: st) h Q ↔ wpL d m is L (.inl (ishl_ x y) :: st) h Q := Iff.rfl
theorem w_ishr : wpL d m ((.ishr, a, b, t) :: is) L (.inl y :: .inl x :: st) h Q ↔ wpL d m is L (.inl (ishr_ x y) :: st) h Q := Iff.rfl
theorem w_iushr : wpL d m ((.iushr, a, b, t) :: is) L (.inl y :: .inl x :: st) h Q ↔ wpL d m is L (.inl (iushr_ x y) :: st) h Q := Iff.rfl
theorem w_ladd : wpL d m ((.ladd, a, b, t) :: is) L (.inr (.inl y) :: .inr (.inl x) :: st) h Q ↔ wpL d m is L (.inr (.inl (w64 (x + y))) :: st) h Q := Iff.rfl
theorem w_lsub : wpL d m ((.lsub, a, b, t) :: is) L (.inr (.inl y) :: .inr (.inl x) :: st) h Q ↔ wpL d m is L (.inr (.inl (w64 (x - y))) :: st) h Q := Iff.rfl
theorem w_lmul : wpL d m ((.lmul, a, b, t) :: is) L (.inr (.inl y) :: .inr (.inl x) :: st) h Q ↔ wpL d m is L (.inr (.inl (w64 (x * y))) :: st) h Q := Iff.rfl
theorem w_lxor : wpL d m ((.lxor, a, b, t) :: is) L (.inr (.inl y) :: .inr (.inl x) :: st) h Q ↔ wpL d m is L (.inr (.inl (lxor_ x y)) :: st) h Q := Iff.rfl
theorem w_lcmp : wpL d m ((.lcmp, a, b, t) :: is) L (.inr (.inl y) :: .inr (.inl x) :: st) h Q ↔ wpL d m is L (.inl (lcmp_ x y) :: st) h Q := Iff.rfl
theorem w_idiv : wpL d m ((.idiv, a, b, t) :: is) L (.inl y :: .inl x :: st) h Q ↔ y ≠ 0 ∧ wpL d m is L (.inl (w32 (x.tdiv y)) :: st) h Q := by
  by_cases hp : y = 0
  · simp only [wpL, exL, sem1, hp, if_true, ne_eq, not_true_eq_false, false_and, reduceCtorEq, exists_false, exists_const]
  · simp only [wpL, exL, sem1, hp, if_false, ne_eq, not_false_eq_true, true_and]
theorem w_irem : wpL d m ((.irem, a, b, t) :: is) L (.inl y :: .inl x :: st) h Q ↔ y ≠ 0 ∧ wpL d m is L (.inl (x.tmod y) :: st) h Q := by
  by_cases hp : y = 0
  · simp only [wpL, exL, sem1, hp, if_true, ne_eq, not_true_eq_false, false_and, reduceCtorEq, exists_false, exists_const]
  · simp only [wpL, exL, sem1, hp, if_false, ne_eq, not_false_eq_true, true_and]
theorem w_ldiv : wpL d m ((.ldiv, a, b, t) :: is) L (.inr (.inl y) :: .inr (.inl x) :: st) h Q ↔ y ≠ 0 ∧ wpL d m is L (.inr (.inl (w64 (x.tdiv y))) :: st) h Q := by
  by_cases hp : y = 0
  · simp only [wpL, exL, sem1, hp, if_true, ne_eq, not_true_eq_false, false_and, reduceCtorEq, exists_false, exists_const]
  · simp only [wpL, exL, sem1, hp, if_false, ne_eq, not_false_eq_true, true_and]
theorem w_lrem : wpL d m ((.lrem, a, b, t) :: is) L (.inr (.inl y) :: .inr (.inl x) :: st) h Q ↔ y ≠ 0 ∧ wpL d m is L (.inr (.inl (x.tmod y)) :: st) h Q := by
  by_cases hp : y = 0
  · simp only [wpL, exL, sem1, hp, if_true, ne_eq, not_true_eq_false, false_and, reduceCtorEq, exists_false, exists_const]
  · simp only [wpL, exL, sem1, hp, if_false, ne_eq, not_false_eq_true, true_and]
theorem w_ineg : wpL d m ((.ineg, a, b, t) :: is) L (.inl x :: st) h Q ↔ wpL d m is L (.inl (w32 (-x)) :: st) h Q := Iff.rfl
theorem w_i2l : wpL d m ((.i2l, a, b, t) :: is) L (.inl x :: st) h Q ↔ wpL d m is L (.inr (.inl x) :: st) h Q := Iff.rfl
theorem w_l2i : wpL d m ((.l2i, a, b, t) :: is) L (.inr (.inl x) :: st) h Q ↔ wpL d m is L (.inl (w32 x) :: st) h Q := Iff.rfl
theorem w_i2b : wpL d m ((.i2b, a, b, t) :: is) L (.inl x :: st) h Q ↔ wpL d m is L (.inl (w8 x) :: st) h Q := Iff.rfl
theorem w_i2c : wpL d m ((.i2c, a, b, t) :: is) L (.inl x :: st) h Q ↔ wpL d m is L (.inl (w16 x) :: st) h Q := Iff.rfl
theorem w_getfield {c : Nat} {g k : Int} : wpL d m ((.getfield c, a, b, [(g, k)]) :: is) L (.inr (.inr z) :: st) h Q ↔ (ah_t h z).1 = g ∧ wpL d m is L (ofK a (ah_m h z k) :: st) h Q := by
  by_cases hp : (ah_t h z).1 = g
  · simp only [wpL, exL, sem1, asc, hp, if_true, true_and]
  · simp only [wpL, exL, sem1, asc, hp, if_false, false_and, reduceCtorEq, exists_false, exists_const]
theorem w_putfield_0 {c : Nat} {g k : Int} : wpL d m ((.putfield c, 0, b, [(g, k)]) :: is) L (.inl x :: .inr (.inr z) :: st) h Q ↔ ((ah_t h z).1 = g ∧ 0 < z) ∧ wpL d m is L st (ah_w h z k x) Q := by
  by_cases hp : (ah_t h z).1 = g <;> by_cases hz : 0 < z <;> simp [wpL, exL, sem1, asc, toK, hp, hz]
theorem w_putfield_1 {c : Nat} {g k : Int} : wpL d m ((.putfield c, 1, b, [(g, k)]) :: is) L (.inr (.inl x) :: .inr (.inr z) :: st) h Q ↔ ((ah_t h z).1 = g ∧ 0 < z) ∧ wpL d m is L st (ah_w h z k x) Q := by
  by_cases hp : (ah_t h z).1 = g <;> by_cases hz : 0 < z <;> simp [wpL, exL, sem1, asc, toK, hp, hz]
theorem w_putfield_2 {c : Nat} {g k : Int} : wpL d m ((.putfield c, 2, b, [(g, k)]) :: is) L (.inr (.inr x) :: .inr (.inr z) :: st) h Q ↔ ((ah_t h z).1 = g ∧ 0 < z) ∧ wpL d m is L st (ah_w h z k x) Q := by
  by_cases hp : (ah_t h z).1 = g <;> by_cases hz : 0 < z <;> simp [wpL, exL, sem1, asc, toK, hp, hz]
theorem w_putfield_3 {c : Nat} {g k : Int} : wpL d m ((.putfield c, 3, b, [(g, k)]) :: is) L (.inl x :: .inr (.inr z) :: st) h Q ↔ ((ah_t h z).1 = g ∧ 0 < z ∧ (x = 0 ∨ x = 1)) ∧ wpL d m is L st (ah_w h z k x) Q := by
  by_cases hp : (ah_t h z).1 = g <;> by_cases hz : 0 < z <;> by_cases hc : (x = 0 ∨ x = 1) <;> simp [wpL, exL, sem1, asc, toK, hp, hz, hc]
theorem w_putfield_4 {c : Nat} {g k : Int} : wpL d m ((.putfield c, 4, b, [(g, k)]) :: is) L (.inl x :: .inr (.inr z) :: st) h Q ↔ ((ah_t h z).1 = g ∧ 0 < z ∧ (-128 ≤ x ∧ x < 128)) ∧ wpL d m is L st (ah_w h z k x) Q := by
  by_cases hp : (ah_t h z).1 = g <;> by_cases hz : 0 < z <;> by_cases hc : (-128 ≤ x ∧ x < 128) <;> simp [wpL, exL, sem1, asc, toK, hp, hz, hc]
theorem w_new {c : Nat} : wpL d m ((.new c, a, b, t) :: is) L st h Q ↔ wpL d m is L (.inr (.inr (ah_n h)) :: st) (ah_new h (a, 0) b.toNat) Q := Iff.rfl
theorem w_newarray {ty : ArrayType} : wpL d m ((.newarray ty, a, b, t) :: is) L (.inl n :: st) h Q ↔ (0 ≤ n ∧ n ≤ 100000) ∧ wpL d m is L (.inr (.inr (ah_n h)) :: st) (ah_new h (arrT ty, n) n) Q := by
  by_cases hp : (0 ≤ n ∧ n ≤ 100000)
  · simp only [wpL, exL, sem1, aLd, aSt, bI, bL, ofK, toK, asc, hp, and_self, if_true, if_false, true_and, ne_eq, not_false_eq_true]
  · simp only [wpL, exL, sem1, aLd, aSt, bI, bL, ofK, toK, asc, hp, if_false, false_and, and_false, wp_n, reduceCtorEq, exists_false, exists_const]
theorem w_anewarray {c : Nat} : wpL d m ((.anewarray c, a, b, t) :: is) L (.inl n :: st) h Q ↔ (0 ≤ n ∧ n ≤ 100000) ∧ wpL d m is L (.inr (.inr (ah_n h)) :: st) (ah_new h (a, n) n) Q := by
  by_cases hp : (0 ≤ n ∧ n ≤ 100000)
  · simp only [wpL, exL, sem1, aLd, aSt, bI, bL, ofK, toK, asc, hp, and_self, if_true, if_false, true_and, ne_eq, not_false_eq_true]
  · simp only [wpL, exL, sem1, aLd, aSt, bI, bL, ofK, toK, asc, hp, if_false, false_and, and_false, wp_n, reduceCtorEq, exists_false, exists_const]
theorem w_arraylength : wpL d m ((.arraylength, a, b, t) :: is) L (.inr (.inr z) :: st) h Q ↔ ((ah_t h z).1 < 0) ∧ wpL d m is L (.inl (ah_t h z).2 :: st) h Q := by
  by_cases hp : ((ah_t h z).1 < 0)
  · simp only [wpL, exL, sem1, aLd, aSt, bI, bL, ofK, toK, asc, hp, and_self, if_true, if_false, true_and, ne_eq, not_false_eq_true]
  · simp only [wpL, exL, sem1, aLd, aSt, bI, bL, ofK, toK, asc, hp, if_false, false_and, and_false, wp_n, reduceCtorEq, exists_false, exists_const]
theorem w_iaload : wpL d m ((.iaload, a, b, t) :: is) L (.inl i :: .inr (.inr z) :: st) h Q ↔ ((ah_t h z).1 = -1 ∧ 0 ≤ i ∧ i < (ah_t h z).2) ∧ wpL d m is L (.inl (ah_m h z i) :: st) h Q := by
  by_cases hp : ((ah_t h z).1 = -1 ∧ 0 ≤ i ∧ i < (ah_t h z).2) <;> simp [wpL, exL, sem1, aLd, ofK, hp]
theorem w_baload : wpL d m ((.baload, a, b, t) :: is) L (.inl i :: .inr (.inr z) :: st) h Q ↔ ((ah_t h z).1 = -2 ∧ 0 ≤ i ∧ i < (ah_t h z).2) ∧ wpL d m is L (.inl (ah_m h z i) :: st) h Q := by
  by_cases hp : ((ah_t h z).1 = -2 ∧ 0 ≤ i ∧ i < (ah_t h z).2) <;> simp [wpL, exL, sem1, aLd, ofK, hp]
theorem w_caload : wpL d m ((.caload, a, b, t) :: is) L (.inl i :: .inr (.inr z) :: st) h Q ↔ ((ah_t h z).1 = -3 ∧ 0 ≤ i ∧ i < (ah_t h z).2) ∧ wpL d m is L (.inl (ah_m h z i) :: st) h Q := by
  by_cases hp : ((ah_t h z).1 = -3 ∧ 0 ≤ i ∧ i < (ah_t h z).2) <;> simp [wpL, exL, sem1, aLd, ofK, hp]
theorem w_laload : wpL d m ((.laload, a, b, t) :: is) L (.inl i :: .inr (.inr z) :: st) h Q ↔ ((ah_t h z).1 = -4 ∧ 0 ≤ i ∧ i < (ah_t h z).2) ∧ wpL d m is L (.inr (.inl (ah_m h z i)) :: st) h Q := by
  by_cases hp : ((ah_t h z).1 = -4 ∧ 0 ≤ i ∧ i < (ah_t h z).2) <;> simp [wpL, exL, sem1, aLd, ofK, hp]
theorem w_aaload : wpL d m ((.aaload, a, b, t) :: is) L (.inl i :: .inr (.inr z) :: st) h Q ↔ ((ah_t h z).1 = a ∧ 0 ≤ i ∧ i < (ah_t h z).2) ∧ wpL d m is L (.inr (.inr (ah_m h z i)) :: st) h Q := by
  by_cases hp : ((ah_t h z).1 = a ∧ 0 ≤ i ∧ i < (ah_t h z).2) <;> simp [wpL, exL, sem1, aLd, ofK, hp]
theorem w_iastore : wpL d m ((.iastore, a, b, t) :: is) L (.inl x :: .inl i :: .inr (.inr z) :: st) h Q ↔ (0 < z ∧ (ah_t h z).1 = -1 ∧ 0 ≤ i ∧ i < (ah_t h z).2) ∧ wpL d m is L st (ah_w h z i (x)) Q := by
  by_cases hp : (0 < z ∧ (ah_t h z).1 = -1 ∧ 0 ≤ i ∧ i < (ah_t h z).2) <;> simp [wpL, exL, sem1, aSt, toK, hp]
theorem w_bastore : wpL d m ((.bastore, a, b, t) :: is) L (.inl x :: .inl i :: .inr (.inr z) :: st) h Q ↔ (0 < z ∧ (ah_t h z).1 = -2 ∧ 0 ≤ i ∧ i < (ah_t h z).2) ∧ wpL d m is L st (ah_w h z i (w8 x)) Q := by
  by_cases hp : (0 < z ∧ (ah_t h z).1 = -2 ∧ 0 ≤ i ∧ i < (ah_t h z).2) <;> simp [wpL, exL, sem1, aSt, toK, hp]
theorem w_castore : wpL d m ((.castore, a, b, t) :: is) L (.inl x :: .inl i :: .inr (.inr z) :: st) h Q ↔ (0 < z ∧ (ah_t h z).1 = -3 ∧ 0 ≤ i ∧ i < (ah_t h z).2) ∧ wpL d m is L st (ah_w h z i (w16 x)) Q := by
  by_cases hp : (0 < z ∧ (ah_t h z).1 = -3 ∧ 0 ≤ i ∧ i < (ah_t h z).2) <;> simp [wpL, exL, sem1, aSt, toK, hp]
theorem w_lastore : wpL d m ((.lastore, a, b, t) :: is) L (.inr (.inl x) :: .inl i :: .inr (.inr z) :: st) h Q ↔ (0 < z ∧ (ah_t h z).1 = -4 ∧ 0 ≤ i ∧ i < (ah_t h z).2) ∧ wpL d m is L st (ah_w h z i (x)) Q := by
  by_cases hp : (0 < z ∧ (ah_t h z).1 = -4 ∧ 0 ≤ i ∧ i < (ah_t h z).2) <;> simp [wpL, exL, sem1, aSt, toK, hp]
theorem w_aastore : wpL d m ((.aastore, a, b, t) :: is) L (.inr (.inr x) :: .inl i :: .inr (.inr z) :: st) h Q ↔ ((asc t (ah_t h x).1).isSome = true ∧ 0 < z ∧ (ah_t h z).1 = a ∧ 0 ≤ i ∧ i < (ah_t h z).2) ∧ wpL d m is L st (ah_w h z i x) Q := by
  by_cases hp : (0 < z ∧ (ah_t h z).1 = a ∧ 0 ≤ i ∧ i < (ah_t h z).2) <;> cases ha : asc t (ah_t h x).1 <;> simp [wpL, exL, sem1, ha, hp]
theorem w_checkcast {c : Nat} : wpL d m ((.checkcast c, a, b, t) :: is) L (.inr (.inr z) :: st) h Q ↔ (asc t (ah_t h z).1).isSome = true ∧ wpL d m is L (.inr (.inr z) :: st) h Q := by
  cases ha : asc t (ah_t h z).1 <;> simp [wpL, exL, sem1, ha]
theorem w_instanceof {c : Nat} {g k : Int} : wpL d m ((.instanceof c, a, b, [(g, k)]) :: is) L (.inr (.inr z) :: st) h Q ↔ (ah_t h z).1 = g ∧ wpL d m is L (.inl k :: st) h Q := by
  by_cases hp : (ah_t h z).1 = g <;> simp [wpL, exL, sem1, asc, hp]
theorem w_nop : wpL d m ((.nop, a, b, t) :: is) L st h Q ↔ wpB d m a.toNat L st h Q := Iff.rfl
theorem w_goto {c} : wpL d m ((.goto c, a, b, t) :: is) L st h Q ↔ wpB d m a.toNat L st h Q := Iff.rfl
theorem w_ifCond_eq {o} : wpL d m ((.ifCond .eq o, a, b, t) :: is) L (.inl x :: st) h Q ↔ if x = 0 then wpB d m a.toNat L st h Q else wpL d m is L st h Q := by
  by_cases hp : x = 0
  · have e : cnd .eq x 0 = true := by simp only [cnd]; exact decide_eq_true (by omega)
    rw [if_pos hp]; simp only [wpL, exL, e]; exact Iff.rfl
  · have e : cnd .eq x 0 = false := by simp only [cnd]; exact decide_eq_false (by omega)
    rw [if_neg hp]; simp only [wpL, exL, e]; exact Iff.rfl
theorem w_if_icmp_eq {o} : wpL d m ((.if_icmp .eq o, a, b, t) :: is) L (.inl y :: .inl x :: st) h Q ↔ if x = y then wpB d m a.toNat L st h Q else wpL d m is L st h Q := by
  by_cases hp : x = y
  · have e : cnd .eq x y = true := by simp only [cnd]; exact decide_eq_true (by omega)
    rw [if_pos hp]; simp only [wpL, exL, e]; exact Iff.rfl
  · have e : cnd .eq x y = false := by simp only [cnd]; exact decide_eq_false (by omega)
    rw [if_neg hp]; simp only [wpL, exL, e]; exact Iff.rfl
theorem w_ifCond_ne {o} : wpL d m ((.ifCond .ne o, a, b, t) :: is) L (.inl x :: st) h Q ↔ if x = 0 then wpL d m is L st h Q else wpB d m a.toNat L st h Q := by
  by_cases hp : x = 0
  · have e : cnd .ne x 0 = false := by simp only [cnd]; exact decide_eq_false (by omega)
    rw [if_pos hp]; simp only [wpL, exL, e]; exact Iff.rfl
  · have e : cnd .ne x 0 = true := by simp only [cnd]; exact decide_eq_true (by omega)
    rw [if_neg hp]; simp only [wpL, exL, e]; exact Iff.rfl
theorem w_if_icmp_ne {o} : wpL d m ((.if_icmp .ne o, a, b, t) :: is) L (.inl y :: .inl x :: st) h Q ↔ if x = y then wpL d m is L st h Q else wpB d m a.toNat L st h Q := by
  by_cases hp : x = y
  · have e : cnd .ne x y = false := by simp only [cnd]; exact decide_eq_false (by omega)
    rw [if_pos hp]; simp only [wpL, exL, e]; exact Iff.rfl
  · have e : cnd .ne x y = true := by simp only [cnd]; exact decide_eq_true (by omega)
    rw [if_neg hp]; simp only [wpL, exL, e]; exact Iff.rfl
theorem w_ifCond_lt {o} : wpL d m ((.ifCond .lt o, a, b, t) :: is) L (.inl x :: st) h Q ↔ if x < 0 then wpB d m a.toNat L st h Q else wpL d m is L st h Q := by
  by_cases hp : x < 0
  · have e : cnd .lt x 0 = true := by simp only [cnd]; exact decide_eq_true (by omega)
    rw [if_pos hp]; simp only [wpL, exL, e]; exact Iff.rfl
  · have e : cnd .lt x 0 = false := by simp only [cnd]; exact decide_eq_false (by omega)
    rw [if_neg hp]; simp only [wpL, exL, e]; exact Iff.rfl
theorem w_if_icmp_lt {o} : wpL d m ((.if_icmp .lt o, a, b, t) :: is) L (.inl y :: .inl x :: st) h Q ↔ if x < y then wpB d m a.toNat L st h Q else wpL d m is L st h Q := by
  by_cases hp : x < y
  · have e : cnd .lt x y = true := by simp only [cnd]; exact decide_eq_true (by omega)
    rw [if_pos hp]; simp only [wpL, exL, e]; exact Iff.rfl
  · have e : cnd .lt x y = false := by simp only [cnd]; exact decide_eq_false (by omega)
    rw [if_neg hp]; simp only [wpL, exL, e]; exact Iff.rfl
theorem w_ifCond_ge {o} : wpL d m ((.ifCond .ge o, a, b, t) :: is) L (.inl x :: st) h Q ↔ if x < 0 then wpL d m is L st h Q else wpB d m a.toNat L st h Q := by
  by_cases hp : x < 0
  · have e : cnd .ge x 0 = false := by simp only [cnd]; exact decide_eq_false (by omega)
    rw [if_pos hp]; simp only [wpL, exL, e]; exact Iff.rfl
  · have e : cnd .ge x 0 = true := by simp only [cnd]; exact decide_eq_true (by omega)
    rw [if_neg hp]; simp only [wpL, exL, e]; exact Iff.rfl
theorem w_if_icmp_ge {o} : wpL d m ((.if_icmp .ge o, a, b, t) :: is) L (.inl y :: .inl x :: st) h Q ↔ if x < y then wpL d m is L st h Q else wpB d m a.toNat L st h Q := by
  by_cases hp : x < y
  · have e : cnd .ge x y = false := by simp only [cnd]; exact decide_eq_false (by omega)
    rw [if_pos hp]; simp only [wpL, exL, e]; exact Iff.rfl
  · have e : cnd .ge x y = true := by simp only [cnd]; exact decide_eq_true (by omega)
    rw [if_neg hp]; simp only [wpL, exL, e]; exact Iff.rfl
theorem w_ifCond_gt {o} : wpL d m ((.ifCond .gt o, a, b, t) :: is) L (.inl x :: st) h Q ↔ if 0 < x then wpB d m a.toNat L st h Q else wpL d m is L st h Q := by
  by_cases hp : 0 < x
  · have e : cnd .gt x 0 = true := by simp only [cnd]; exact decide_eq_true (by omega)
    rw [if_pos hp]; simp only [wpL, exL, e]; exact Iff.rfl
  · have e : cnd .gt x 0 = false := by simp only [cnd]; exact decide_eq_false (by omega)
    rw [if_neg hp]; simp only [wpL, exL, e]; exact Iff.rfl
theorem w_if_icmp_gt {o} : wpL d m ((.if_icmp .gt o, a, b, t) :: is) L (.inl y :: .inl x :: st) h Q ↔ if y < x then wpB d m a.toNat L st h Q else wpL d m is L st h Q := by
  by_cases hp : y < x
  · have e : cnd .gt x y = true := by simp only [cnd]; exact decide_eq_true (by omega)
    rw [if_pos hp]; simp only [wpL, exL, e]; exact Iff.rfl
  · have e : cnd .gt x y = false := by simp only [cnd]; exact decide_eq_false (by omega)
    rw [if_neg hp]; simp only [wpL, exL, e]; exact Iff.rfl
theorem w_ifCond_le {o} : wpL d m ((.ifCond .le o, a, b, t) :: is) L (.inl x :: st) h Q ↔ if 0 < x then wpL d m is L st h Q else wpB d m a.toNat L st h Q := by
  by_cases hp : 0 < x
  · have e : cnd .le x 0 = false := by simp only [cnd]; exact decide_eq_false (by omega)
    rw [if_pos hp]; simp only [wpL, exL, e]; exact Iff.rfl
  · have e : cnd .le x 0 = true := by simp only [cnd]; exact decide_eq_true (by omega)
    rw [if_neg hp]; simp only [wpL, exL, e]; exact Iff.rfl
theorem w_if_icmp_le {o} : wpL d m ((.if_icmp .le o, a, b, t) :: is) L (.inl y :: .inl x :: st) h Q ↔ if y < x then wpL d m is L st h Q else wpB d m a.toNat L st h Q := by
  by_cases hp : y < x
  · have e : cnd .le x y = false := by simp only [cnd]; exact decide_eq_false (by omega)
    rw [if_pos hp]; simp only [wpL, exL, e]; exact Iff.rfl
  · have e : cnd .le x y = true := by simp only [cnd]; exact decide_eq_true (by omega)
    rw [if_neg hp]; simp only [wpL, exL, e]; exact Iff.rfl
theorem w_acmp_eq {o} : wpL d m ((.if_acmp .eq o, a, b, t) :: is) L (.inr (.inr y) :: .inr (.inr x) :: st) h Q ↔ if x = y then wpB d m a.toNat L st h Q else ((0 < x ∨ 0 < y) ∧ wpL d m is L st h Q) := by
  by_cases hp : x = y <;> by_cases hq : (0 < x ∨ 0 < y) <;> simp [wpL, wpB, exL, hp, hq]
theorem w_acmp_ne {o} : wpL d m ((.if_acmp .ne o, a, b, t) :: is) L (.inr (.inr y) :: .inr (.inr x) :: st) h Q ↔ if x = y then wpL d m is L st h Q else ((0 < x ∨ 0 < y) ∧ wpB d m a.toNat L st h Q) := by
  by_cases hp : x = y <;> by_cases hq : (0 < x ∨ 0 < y) <;> simp [wpL, wpB, exL, hp, hq]
theorem w_ifnull {o} : wpL d m ((.ifnull o, a, b, t) :: is) L (.inr (.inr x) :: st) h Q ↔ if x = 0 then wpB d m a.toNat L st h Q else (0 < x ∧ wpL d m is L st h Q) := by
  by_cases hp : x = 0 <;> by_cases hq : 0 < x <;> simp [wpL, wpB, exL, hp, hq]
theorem w_ifnonnull {o} : wpL d m ((.ifnonnull o, a, b, t) :: is) L (.inr (.inr x) :: st) h Q ↔ if x = 0 then wpL d m is L st h Q else (0 < x ∧ wpB d m a.toNat L st h Q) := by
  by_cases hp : x = 0 <;> by_cases hq : 0 < x <;> simp [wpL, wpB, exL, hp, hq]
theorem w_tableswitch {o1 o2 o3 o4} : wpL d m ((.tableswitch o1 o2 o3 o4, a, b, t) :: is) L (.inl x :: st) h Q ↔ wpB d m ((asc t x).getD a).toNat L st h Q := Iff.rfl
theorem w_lookupswitch {o1 o2} : wpL d m ((.lookupswitch o1 o2, a, b, t) :: is) L (.inl x :: st) h Q ↔ wpB d m ((asc t x).getD a).toNat L st h Q := Iff.rfl
theorem w_return : wpL d m ((.return_, a, b, t) :: is) L [] h Q ↔ Q (.inl none) h := wp_r
theorem w_lreturn : wpL d m ((.lreturn, a, b, t) :: is) L [.inr (.inl z)] h Q ↔ Q (.inl (some (.inr (.inl z)))) h := wp_r
theorem w_areturn : wpL d m ((.areturn, a, b, t) :: is) L [.inr (.inr z)] h Q ↔ Q (.inl (some (.inr (.inr z)))) h := wp_r
theorem w_ireturn0 : wpL d m ((.ireturn, 0, b, t) :: is) L [.inl z] h Q ↔ Q (.inl (some (.inl z))) h := by
  have e : ∀ n, exL (fun l => ex gP gML n d m l) (rC n d) ((.ireturn, 0, b, t) :: is) L [.inl z] h = if (0 : Int) = 0 ∨ ((0 : Int) = 1 ∧ (z = 0 ∨ z = 1)) ∨ ((0 : Int) = 2 ∧ 0 ≤ z ∧ z < 65536) ∨ ((0 : Int) = 3 ∧ -128 ≤ z ∧ z < 128) then some (.inl (some (.inl z)), h) else none := fun n => rfl
  simp only [wpL, e]
  refine (wp_guard wp_r).trans ?_
  constructor
  · rintro ⟨h1, h2⟩
    exact h2
  · intro h2; exact ⟨Or.inl trivial, h2⟩
theorem w_ireturn1 : wpL d m ((.ireturn, 1, b, t) :: is) L [.inl z] h Q ↔ (z = 0 ∨ z = 1) ∧ Q (.inl (some (.inl z))) h := by
  have e : ∀ n, exL (fun l => ex gP gML n d m l) (rC n d) ((.ireturn, 1, b, t) :: is) L [.inl z] h = if (1 : Int) = 0 ∨ ((1 : Int) = 1 ∧ (z = 0 ∨ z = 1)) ∨ ((1 : Int) = 2 ∧ 0 ≤ z ∧ z < 65536) ∨ ((1 : Int) = 3 ∧ -128 ≤ z ∧ z < 128) then some (.inl (some (.inl z)), h) else none := fun n => rfl
  simp only [wpL, e]
  refine (wp_guard wp_r).trans ?_
  constructor
  · rintro ⟨h1, h2⟩
    exact ⟨by omega, h2⟩
  · rintro ⟨h1, h2⟩; exact ⟨Or.inr (Or.inl ⟨trivial, h1⟩), h2⟩
theorem w_ireturn2 : wpL d m ((.ireturn, 2, b, t) :: is) L [.inl z] h Q ↔ (0 ≤ z ∧ z < 65536) ∧ Q (.inl (some (.inl z))) h := by
  have e : ∀ n, exL (fun l => ex gP gML n d m l) (rC n d) ((.ireturn, 2, b, t) :: is) L [.inl z] h = if (2 : Int) = 0 ∨ ((2 : Int) = 1 ∧ (z = 0 ∨ z = 1)) ∨ ((2 : Int) = 2 ∧ 0 ≤ z ∧ z < 65536) ∨ ((2 : Int) = 3 ∧ -128 ≤ z ∧ z < 128) then some (.inl (some (.inl z)), h) else none := fun n => rfl
  simp only [wpL, e]
  refine (wp_guard wp_r).trans ?_
  constructor
  · rintro ⟨h1, h2⟩
    exact ⟨by omega, h2⟩
  · rintro ⟨h1, h2⟩; exact ⟨Or.inr (Or.inr (Or.inl ⟨trivial, h1⟩)), h2⟩
theorem w_ireturn3 : wpL d m ((.ireturn, 3, b, t) :: is) L [.inl z] h Q ↔ (-128 ≤ z ∧ z < 128) ∧ Q (.inl (some (.inl z))) h := by
  have e : ∀ n, exL (fun l => ex gP gML n d m l) (rC n d) ((.ireturn, 3, b, t) :: is) L [.inl z] h = if (3 : Int) = 0 ∨ ((3 : Int) = 1 ∧ (z = 0 ∨ z = 1)) ∨ ((3 : Int) = 2 ∧ 0 ≤ z ∧ z < 65536) ∨ ((3 : Int) = 3 ∧ -128 ≤ z ∧ z < 128) then some (.inl (some (.inl z)), h) else none := fun n => rfl
  simp only [wpL, e]
  refine (wp_guard wp_r).trans ?_
  constructor
  · rintro ⟨h1, h2⟩
    exact ⟨by omega, h2⟩
  · rintro ⟨h1, h2⟩; exact ⟨Or.inr (Or.inr (Or.inr ⟨trivial, h1⟩)), h2⟩
theorem w_athrow {g : Int} : wpL d m ((.athrow, a, b, [(g, 0)]) :: is) L (.inr (.inr z) :: st) h Q ↔ ((ah_t h z).1 = g ∧ 0 < z) ∧ Q (.inr z) h := by
  have e : ∀ n, exL (fun l => ex gP gML n d m l) (rC n d) ((.athrow, a, b, [(g, 0)]) :: is) L (.inr (.inr z) :: st) h = if (if (ah_t h z).1 = g then some 0 else none) = some (0 : Int) ∧ 0 < z then some (.inr z, h) else none := fun n => rfl
  simp only [wpL, e]
  refine (wp_guard wp_r).trans ?_
  by_cases hp : (ah_t h z).1 = g <;> simp [hp]
theorem w_invokestatic_0 {c : Nat} {g k : Int} (ha : a ≠ -1) : wpL d m ((.invokestatic c, a, 0, (g, k) :: t) :: is) L (st) h Q ↔ stw st ≤ 8 ∧ wpC d k.toNat [] h (kont d m is a L st Q) := by
  have e : ∀ n, exL (fun l => ex gP gML n d m l) (rC n d) ((.invokestatic c, a, 0, (g, k) :: t) :: is) L (st) h = if stw st ≤ 8 then after (fun l => ex gP gML n d m l) (fun L st h => exL (fun l => ex gP gML n d m l) (rC n d) is L st h) a L st (rC n d k.toNat [] h) else none := by
    intro n; show (if a = -1 then _ else _) = _; rw [if_neg ha]
  simp only [wpL, e]; exact wp_guard after_iff
theorem w_invokespecial_0 {c : Nat} {g k : Int} (ha : a ≠ -3) : wpL d m ((.invokespecial c, a, 0, [(g, k)]) :: is) L (.inr (.inr z) :: st) h Q ↔ ((ah_t h z).1 = g ∧ stw st ≤ 8) ∧ wpC d k.toNat (.inr (.inr z) :: []) h (kont d m is a L st Q) := by
  have e : ∀ n, exL (fun l => ex gP gML n d m l) (rC n d) ((.invokespecial c, a, 0, [(g, k)]) :: is) L (.inr (.inr z) :: st) h = if (ah_t h z).1 = g ∧ stw st ≤ 8 then after (fun l => ex gP gML n d m l) (fun L st h => exL (fun l => ex gP gML n d m l) (rC n d) is L st h) a L st (rC n d k.toNat (.inr (.inr z) :: []) h) else none := by
    intro n
    refine Eq.trans (b := match asc [(g, k)] (ah_t h z).1 with | some y => if stw st ≤ 8 then after (fun l => ex gP gML n d m l) (fun L st h => exL (fun l => ex gP gML n d m l) (rC n d) is L st h) a L st (rC n d y.toNat (.inr (.inr z) :: []) h) else none | none => none) ?_ ?_
    · show (if a = -3 then _ else _) = _; rw [if_neg ha]; rfl
    · by_cases hp : (ah_t h z).1 = g <;> by_cases hq : stw st ≤ 8 <;> simp only [asc, hp, hq, if_true, if_false, and_self, and_false, false_and, true_and]
  simp only [wpL, e]; exact wp_guard after_iff
theorem w_invokespecial_0p {c : Nat} {k : Int} (ha : a ≠ -3) (hk : asc t (ah_t h z).1 = some k) : wpL d m ((.invokespecial c, a, 0, t) :: is) L (.inr (.inr z) :: st) h Q ↔ stw st ≤ 8 ∧ wpC d k.toNat (.inr (.inr z) :: []) h (kont d m is a L st Q) := by
  have e : ∀ n, exL (fun l => ex gP gML n d m l) (rC n d) ((.invokespecial c, a, 0, t) :: is) L (.inr (.inr z) :: st) h = if stw st ≤ 8 then after (fun l => ex gP gML n d m l) (fun L st h => exL (fun l => ex gP gML n d m l) (rC n d) is L st h) a L st (rC n d k.toNat (.inr (.inr z) :: []) h) else none := by
    intro n
    refine Eq.trans (b := match asc t (ah_t h z).1 with | some y => if stw st ≤ 8 then after (fun l => ex gP gML n d m l) (fun L st h => exL (fun l => ex gP gML n d m l) (rC n d) is L st h) a L st (rC n d y.toNat (.inr (.inr z) :: []) h) else none | none => none) ?_ ?_
    · show (if a = -3 then _ else _) = _; rw [if_neg ha]; rfl
    · rw [hk]
  simp only [wpL, e]; exact wp_guard after_iff
theorem w_invokevirtual_0 {c : Nat} {g k : Int} (ha : a ≠ -2) : wpL d m ((.invokevirtual c, a, 0, [(g, k)]) :: is) L (.inr (.inr z) :: st) h Q ↔ ((ah_t h z).1 = g ∧ stw st ≤ 8) ∧ wpC d k.toNat (.inr (.inr z) :: []) h (kont d m is a L st Q) := by
  have e : ∀ n, exL (fun l => ex gP gML n d m l) (rC n d) ((.invokevirtual c, a, 0, [(g, k)]) :: is) L (.inr (.inr z) :: st) h = if (ah_t h z).1 = g ∧ stw st ≤ 8 then after (fun l => ex gP gML n d m l) (fun L st h => exL (fun l => ex gP gML n d m l) (rC n d) is L st h) a L st (rC n d k.toNat (.inr (.inr z) :: []) h) else none := by
    intro n
    refine Eq.trans (b := match asc [(g, k)] (ah_t h z).1 with | some y => if stw st ≤ 8 then after (fun l => ex gP gML n d m l) (fun L st h => exL (fun l => ex gP gML n d m l) (rC n d) is L st h) a L st (rC n d y.toNat (.inr (.inr z) :: []) h) else none | none => none) ?_ ?_
    · show (if a = -2 then _ else _) = _; rw [if_neg ha]; rfl
    · by_cases hp : (ah_t h z).1 = g <;> by_cases hq : stw st ≤ 8 <;> simp only [asc, hp, hq, if_true, if_false, and_self, and_false, false_and, true_and]
  simp only [wpL, e]; exact wp_guard after_iff
theorem w_invokevirtual_0p {c : Nat} {k : Int} (ha : a ≠ -2) (hk : asc t (ah_t h z).1 = some k) : wpL d m ((.invokevirtual c, a, 0, t) :: is) L (.inr (.inr z) :: st) h Q ↔ stw st ≤ 8 ∧ wpC d k.toNat (.inr (.inr z) :: []) h (kont d m is a L st Q) := by
  have e : ∀ n, exL (fun l => ex gP gML n d m l) (rC n d) ((.invokevirtual c, a, 0, t) :: is) L (.inr (.inr z) :: st) h = if stw st ≤ 8 then after (fun l => ex gP gML n d m l) (fun L st h => exL (fun l => ex gP gML n d m l) (rC n d) is L st h) a L st (rC n d k.toNat (.inr (.inr z) :: []) h) else none := by
    intro n
    refine Eq.trans (b := match asc t (ah_t h z).1 with | some y => if stw st ≤ 8 then after (fun l => ex gP gML n d m l) (fun L st h => exL (fun l => ex gP gML n d m l) (rC n d) is L st h) a L st (rC n d y.toNat (.inr (.inr z) :: []) h) else none | none => none) ?_ ?_
    · show (if a = -2 then _ else _) = _; rw [if_neg ha]; rfl
    · rw [hk]
  simp only [wpL, e]; exact wp_guard after_iff
theorem w_invokeinterface_0 {c c2 : Nat} {g k : Int} : wpL d m ((.invokeinterface c c2, a, 0, [(g, k)]) :: is) L (.inr (.inr z) :: st) h Q ↔ ((ah_t h z).1 = g ∧ stw st ≤ 8) ∧ wpC d k.toNat (.inr (.inr z) :: []) h (kont d m is a L st Q) := by
  have e : ∀ n, exL (fun l => ex gP gML n d m l) (rC n d) ((.invokeinterface c c2, a, 0, [(g, k)]) :: is) L (.inr (.inr z) :: st) h = if (ah_t h z).1 = g ∧ stw st ≤ 8 then after (fun l => ex gP gML n d m l) (fun L st h => exL (fun l => ex gP gML n d m l) (rC n d) is L st h) a L st (rC n d k.toNat (.inr (.inr z) :: []) h) else none := by
    intro n
    refine Eq.trans (b := match asc [(g, k)] (ah_t h z).1 with | some y => if stw st ≤ 8 then after (fun l => ex gP gML n d m l) (fun L st h => exL (fun l => ex gP gML n d m l) (rC n d) is L st h) a L st (rC n d y.toNat (.inr (.inr z) :: []) h) else none | none => none) ?_ ?_
    · skip; rfl
    · by_cases hp : (ah_t h z).1 = g <;> by_cases hq : stw st ≤ 8 <;> simp only [asc, hp, hq, if_true, if_false, and_self, and_false, false_and, true_and]
  simp only [wpL, e]; exact wp_guard after_iff
theorem w_invokeinterface_0p {c c2 : Nat} {k : Int} (hk : asc t (ah_t h z).1 = some k) : wpL d m ((.invokeinterface c c2, a, 0, t) :: is) L (.inr (.inr z) :: st) h Q ↔ stw st ≤ 8 ∧ wpC d k.toNat (.inr (.inr z) :: []) h (kont d m is a L st Q) := by
  have e : ∀ n, exL (fun l => ex gP gML n d m l) (rC n d) ((.invokeinterface c c2, a, 0, t) :: is) L (.inr (.inr z) :: st) h = if stw st ≤ 8 then after (fun l => ex gP gML n d m l) (fun L st h => exL (fun l => ex gP gML n d m l) (rC n d) is L st h) a L st (rC n d k.toNat (.inr (.inr z) :: []) h) else none := by
    intro n
    refine Eq.trans (b := match asc t (ah_t h z).1 with | some y => if stw st ≤ 8 then after (fun l => ex gP gML n d m l) (fun L st h => exL (fun l => ex gP gML n d m l) (rC n d) is L st h) a L st (rC n d y.toNat (.inr (.inr z) :: []) h) else none | none => none) ?_ ?_
    · skip; rfl
    · rw [hk]
  simp only [wpL, e]; exact wp_guard after_iff
theorem w_invokestatic_1 {c : Nat} {g k : Int} {u0 : AV} (ha : a ≠ -1) : wpL d m ((.invokestatic c, a, 1, (g, k) :: t) :: is) L (u0 :: st) h Q ↔ stw st ≤ 8 ∧ wpC d k.toNat [u0] h (kont d m is a L st Q) := by
  have e : ∀ n, exL (fun l => ex gP gML n d m l) (rC n d) ((.invokestatic c, a, 1, (g, k) :: t) :: is) L (u0 :: st) h = if stw st ≤ 8 then after (fun l => ex gP gML n d m l) (fun L st h => exL (fun l => ex gP gML n d m l) (rC n d) is L st h) a L st (rC n d k.toNat [u0] h) else none := by
    intro n; show (if a = -1 then _ else _) = _; rw [if_neg ha]
  simp only [wpL, e]; exact wp_guard after_iff
theorem w_invokespecial_1 {c : Nat} {g k : Int} {u0 : AV} (ha : a ≠ -3) : wpL d m ((.invokespecial c, a, 1, [(g, k)]) :: is) L (u0 :: .inr (.inr z) :: st) h Q ↔ ((ah_t h z).1 = g ∧ stw st ≤ 8) ∧ wpC d k.toNat (.inr (.inr z) :: [u0]) h (kont d m is a L st Q) := by
  have e : ∀ n, exL (fun l => ex gP gML n d m l) (rC n d) ((.invokespecial c, a, 1, [(g, k)]) :: is) L (u0 :: .inr (.inr z) :: st) h = if (ah_t h z).1 = g ∧ stw st ≤ 8 then after (fun l => ex gP gML n d m l) (fun L st h => exL (fun l => ex gP gML n d m l) (rC n d) is L st h) a L st (rC n d k.toNat (.inr (.inr z) :: [u0]) h) else none := by
    intro n
    refine Eq.trans (b := match asc [(g, k)] (ah_t h z).1 with | some y => if stw st ≤ 8 then after (fun l => ex gP gML n d m l) (fun L st h => exL (fun l => ex gP gML n d m l) (rC n d) is L st h) a L st (rC n d y.toNat (.inr (.inr z) :: [u0]) h) else none | none => none) ?_ ?_
    · show (if a = -3 then _ else _) = _; rw [if_neg ha]; rfl
    · by_cases hp : (ah_t h z).1 = g <;> by_cases hq : stw st ≤ 8 <;> simp only [asc, hp, hq, if_true, if_false, and_self, and_false, false_and, true_and]
  simp only [wpL, e]; exact wp_guard after_iff
theorem w_invokespecial_1p {c : Nat} {k : Int} {u0 : AV} (ha : a ≠ -3) (hk : asc t (ah_t h z).1 = some k) : wpL d m ((.invokespecial c, a, 1, t) :: is) L (u0 :: .inr (.inr z) :: st) h Q ↔ stw st ≤ 8 ∧ wpC d k.toNat (.inr (.inr z) :: [u0]) h (kont d m is a L st Q) := by
  have e : ∀ n, exL (fun l => ex gP gML n d m l) (rC n d) ((.invokespecial c, a, 1, t) :: is) L (u0 :: .inr (.inr z) :: st) h = if stw st ≤ 8 then after (fun l => ex gP gML n d m l) (fun L st h => exL (fun l => ex gP gML n d m l) (rC n d) is L st h) a L st (rC n d k.toNat (.inr (.inr z) :: [u0]) h) else none := by
    intro n
    refine Eq.trans (b := match asc t (ah_t h z).1 with | some y => if stw st ≤ 8 then after (fun l => ex gP gML n d m l) (fun L st h => exL (fun l => ex gP gML n d m l) (rC n d) is L st h) a L st (rC n d y.toNat (.inr (.inr z) :: [u0]) h) else none | none => none) ?_ ?_
    · show (if a = -3 then _ else _) = _; rw [if_neg ha]; rfl
    · rw [hk]
  simp only [wpL, e]; exact wp_guard after_iff
theorem w_invokevirtual_1 {c : Nat} {g k : Int} {u0 : AV} (ha : a ≠ -2) : wpL d m ((.invokevirtual c, a, 1, [(g, k)]) :: is) L (u0 :: .inr (.inr z) :: st) h Q ↔ ((ah_t h z).1 = g ∧ stw st ≤ 8) ∧ wpC d k.toNat (.inr (.inr z) :: [u0]) h (kont d m is a L st Q) := by
  have e : ∀ n, exL (fun l => ex gP gML n d m l) (rC n d) ((.invokevirtual c, a, 1, [(g, k)]) :: is) L (u0 :: .inr (.inr z) :: st) h = if (ah_t h z).1 = g ∧ stw st ≤ 8 then after (fun l => ex gP gML n d m l) (fun L st h => exL (fun l => ex gP gML n d m l) (rC n d) is L st h) a L st (rC n d k.toNat (.inr (.inr z) :: [u0]) h) else none := by
    intro n
    refine Eq.trans (b := match asc [(g, k)] (ah_t h z).1 with | some y => if stw st ≤ 8 then after (fun l => ex gP gML n d m l) (fun L st h => exL (fun l => ex gP gML n d m l) (rC n d) is L st h) a L st (rC n d y.toNat (.inr (.inr z) :: [u0]) h) else none | none => none) ?_ ?_
    · show (if a = -2 then _ else _) = _; rw [if_neg ha]; rfl
    · by_cases hp : (ah_t h z).1 = g <;> by_cases hq : stw st ≤ 8 <;> simp only [asc, hp, hq, if_true, if_false, and_self, and_false, false_and, true_and]
  simp only [wpL, e]; exact wp_guard after_iff
theorem w_invokevirtual_1p {c : Nat} {k : Int} {u0 : AV} (ha : a ≠ -2) (hk : asc t (ah_t h z).1 = some k) : wpL d m ((.invokevirtual c, a, 1, t) :: is) L (u0 :: .inr (.inr z) :: st) h Q ↔ stw st ≤ 8 ∧ wpC d k.toNat (.inr (.inr z) :: [u0]) h (kont d m is a L st Q) := by
  have e : ∀ n, exL (fun l => ex gP gML n d m l) (rC n d) ((.invokevirtual c, a, 1, t) :: is) L (u0 :: .inr (.inr z) :: st) h = if stw st ≤ 8 then after (fun l => ex gP gML n d m l) (fun L st h => exL (fun l => ex gP gML n d m l) (rC n d) is L st h) a L st (rC n d k.toNat (.inr (.inr z) :: [u0]) h) else none := by
    intro n
    refine Eq.trans (b := match asc t (ah_t h z).1 with | some y => if stw st ≤ 8 then after (fun l => ex gP gML n d m l) (fun L st h => exL (fun l => ex gP gML n d m l) (rC n d) is L st h) a L st (rC n d y.toNat (.inr (.inr z) :: [u0]) h) else none | none => none) ?_ ?_
    · show (if a = -2 then _ else _) = _; rw [if_neg ha]; rfl
    · rw [hk]
  simp only [wpL, e]; exact wp_guard after_iff
theorem w_invokeinterface_1 {c c2 : Nat} {g k : Int} {u0 : AV} : wpL d m ((.invokeinterface c c2, a, 1, [(g, k)]) :: is) L (u0 :: .inr (.inr z) :: st) h Q ↔ ((ah_t h z).1 = g ∧ stw st ≤ 8) ∧ wpC d k.toNat (.inr (.inr z) :: [u0]) h (kont d m is a L st Q) := by
  have e : ∀ n, exL (fun l => ex gP gML n d m l) (rC n d) ((.invokeinterface c c2, a, 1, [(g, k)]) :: is) L (u0 :: .inr (.inr z) :: st) h = if (ah_t h z).1 = g ∧ stw st ≤ 8 then after (fun l => ex gP gML n d m l) (fun L st h => exL (fun l => ex gP gML n d m l) (rC n d) is L st h) a L st (rC n d k.toNat (.inr (.inr z) :: [u0]) h) else none := by
    intro n
    refine Eq.trans (b := match asc [(g, k)] (ah_t h z).1 with | some y => if stw st ≤ 8 then after (fun l => ex gP gML n d m l) (fun L st h => exL (fun l => ex gP gML n d m l) (rC n d) is L st h) a L st (rC n d y.toNat (.inr (.inr z) :: [u0]) h) else none | none => none) ?_ ?_
    · skip; rfl
    · by_cases hp : (ah_t h z).1 = g <;> by_cases hq : stw st ≤ 8 <;> simp only [asc, hp, hq, if_true, if_false, and_self, and_false, false_and, true_and]
  simp only [wpL, e]; exact wp_guard after_iff
theorem w_invokeinterface_1p {c c2 : Nat} {k : Int} {u0 : AV} (hk : asc t (ah_t h z).1 = some k) : wpL d m ((.invokeinterface c c2, a, 1, t) :: is) L (u0 :: .inr (.inr z) :: st) h Q ↔ stw st ≤ 8 ∧ wpC d k.toNat (.inr (.inr z) :: [u0]) h (kont d m is a L st Q) := by
  have e : ∀ n, exL (fun l => ex gP gML n d m l) (rC n d) ((.invokeinterface c c2, a, 1, t) :: is) L (u0 :: .inr (.inr z) :: st) h = if stw st ≤ 8 then after (fun l => ex gP gML n d m l) (fun L st h => exL (fun l => ex gP gML n d m l) (rC n d) is L st h) a L st (rC n d k.toNat (.inr (.inr z) :: [u0]) h) else none := by
    intro n
    refine Eq.trans (b := match asc t (ah_t h z).1 with | some y => if stw st ≤ 8 then after (fun l => ex gP gML n d m l) (fun L st h => exL (fun l => ex gP gML n d m l) (rC n d) is L st h) a L st (rC n d y.toNat (.inr (.inr z) :: [u0]) h) else none | none => none) ?_ ?_
    · skip; rfl
    · rw [hk]
  simp only [wpL, e]; exact wp_guard after_iff
theorem w_invokestatic_2 {c : Nat} {g k : Int} {u0 u1 : AV} (ha : a ≠ -1) : wpL d m ((.invokestatic c, a, 2, (g, k) :: t) :: is) L (u1 :: u0 :: st) h Q ↔ stw st ≤ 8 ∧ wpC d k.toNat [u0, u1] h (kont d m is a L st Q) := by
  have e : ∀ n, exL (fun l => ex gP gML n d m l) (rC n d) ((.invokestatic c, a, 2, (g, k) :: t) :: is) L (u1 :: u0 :: st) h = if stw st ≤ 8 then after (fun l => ex gP gML n d m l) (fun L st h => exL (fun l => ex gP gML n d m l) (rC n d) is L st h) a L st (rC n d k.toNat [u0, u1] h) else none := by
    intro n; show (if a = -1 then _ else _) = _; rw [if_neg ha]
  simp only [wpL, e]; exact wp_guard after_iff
theorem w_invokespecial_2 {c : Nat} {g k : Int} {u0 u1 : AV} (ha : a ≠ -3) : wpL d m ((.invokespecial c, a, 2, [(g, k)]) :: is) L (u1 :: u0 :: .inr (.inr z) :: st) h Q ↔ ((ah_t h z).1 = g ∧ stw st ≤ 8) ∧ wpC d k.toNat (.inr (.inr z) :: [u0, u1]) h (kont d m is a L st Q) := by
  have e : ∀ n, exL (fun l => ex gP gML n d m l) (rC n d) ((.invokespecial c, a, 2, [(g, k)]) :: is) L (u1 :: u0 :: .inr (.inr z) :: st) h = if (ah_t h z).1 = g ∧ stw st ≤ 8 then after (fun l => ex gP gML n d m l) (fun L st h => exL (fun l => ex gP gML n d m l) (rC n d) is L st h) a L st (rC n d k.toNat (.inr (.inr z) :: [u0, u1]) h) else none := by
    intro n
    refine Eq.trans (b := match asc [(g, k)] (ah_t h z).1 with | some y => if stw st ≤ 8 then after (fun l => ex gP gML n d m l) (fun L st h => exL (fun l => ex gP gML n d m l) (rC n d) is L st h) a L st (rC n d y.toNat (.inr (.inr z) :: [u0, u1]) h) else none | none => none) ?_ ?_
    · show (if a = -3 then _ else _) = _; rw [if_neg ha]; rfl
    · by_cases hp : (ah_t h z).1 = g <;> by_cases hq : stw st ≤ 8 <;> simp only [asc, hp, hq, if_true, if_false, and_self, and_false, false_and, true_and]
  simp only [wpL, e]; exact wp_guard after_iff
theorem w_invokespecial_2p {c : Nat} {k : Int} {u0 u1 : AV} (ha : a ≠ -3) (hk : asc t (ah_t h z).1 = some k) : wpL d m ((.invokespecial c, a, 2, t) :: is) L (u1 :: u0 :: .inr (.inr z) :: st) h Q ↔ stw st ≤ 8 ∧ wpC d k.toNat (.inr (.inr z) :: [u0, u1]) h (kont d m is a L st Q) := by
  have e : ∀ n, exL (fun l => ex gP gML n d m l) (rC n d) ((.invokespecial c, a, 2, t) :: is) L (u1 :: u0 :: .inr (.inr z) :: st) h = if stw st ≤ 8 then after (fun l => ex gP gML n d m l) (fun L st h => exL (fun l => ex gP gML n d m l) (rC n d) is L st h) a L st (rC n d k.toNat (.inr (.inr z) :: [u0, u1]) h) else none := by
    intro n
    refine Eq.trans (b := match asc t (ah_t h z).1 with | some y => if stw st ≤ 8 then after (fun l => ex gP gML n d m l) (fun L st h => exL (fun l => ex gP gML n d m l) (rC n d) is L st h) a L st (rC n d y.toNat (.inr (.inr z) :: [u0, u1]) h) else none | none => none) ?_ ?_
    · show (if a = -3 then _ else _) = _; rw [if_neg ha]; rfl
    · rw [hk]
  simp only [wpL, e]; exact wp_guard after_iff
theorem w_invokevirtual_2 {c : Nat} {g k : Int} {u0 u1 : AV} (ha : a ≠ -2) : wpL d m ((.invokevirtual c, a, 2, [(g, k)]) :: is) L (u1 :: u0 :: .inr (.inr z) :: st) h Q ↔ ((ah_t h z).1 = g ∧ stw st ≤ 8) ∧ wpC d k.toNat (.inr (.inr z) :: [u0, u1]) h (kont d m is a L st Q) := by
  have e : ∀ n, exL (fun l => ex gP gML n d m l) (rC n d) ((.invokevirtual c, a, 2, [(g, k)]) :: is) L (u1 :: u0 :: .inr (.inr z) :: st) h = if (ah_t h z).1 = g ∧ stw st ≤ 8 then after (fun l => ex gP gML n d m l) (fun L st h => exL (fun l => ex gP gML n d m l) (rC n d) is L st h) a L st (rC n d k.toNat (.inr (.inr z) :: [u0, u1]) h) else none := by
    intro n
    refine Eq.trans (b := match asc [(g, k)] (ah_t h z).1 with | some y => if stw st ≤ 8 then after (fun l => ex gP gML n d m l) (fun L st h => exL (fun l => ex gP gML n d m l) (rC n d) is L st h) a L st (rC n d y.toNat (.inr (.inr z) :: [u0, u1]) h) else none | none => none) ?_ ?_
    · show (if a = -2 then _ else _) = _; rw [if_neg ha]; rfl
    · by_cases hp : (ah_t h z).1 = g <;> by_cases hq : stw st ≤ 8 <;> simp only [asc, hp, hq, if_true, if_false, and_self, and_false, false_and, true_and]
  simp only [wpL, e]; exact wp_guard after_iff
theorem w_invokevirtual_2p {c : Nat} {k : Int} {u0 u1 : AV} (ha : a ≠ -2) (hk : asc t (ah_t h z).1 = some k) : wpL d m ((.invokevirtual c, a, 2, t) :: is) L (u1 :: u0 :: .inr (.inr z) :: st) h Q ↔ stw st ≤ 8 ∧ wpC d k.toNat (.inr (.inr z) :: [u0, u1]) h (kont d m is a L st Q) := by
  have e : ∀ n, exL (fun l => ex gP gML n d m l) (rC n d) ((.invokevirtual c, a, 2, t) :: is) L (u1 :: u0 :: .inr (.inr z) :: st) h = if stw st ≤ 8 then after (fun l => ex gP gML n d m l) (fun L st h => exL (fun l => ex gP gML n d m l) (rC n d) is L st h) a L st (rC n d k.toNat (.inr (.inr z) :: [u0, u1]) h) else none := by
    intro n
    refine Eq.trans (b := match asc t (ah_t h z).1 with | some y => if stw st ≤ 8 then after (fun l => ex gP gML n d m l) (fun L st h => exL (fun l => ex gP gML n d m l) (rC n d) is L st h) a L st (rC n d y.toNat (.inr (.inr z) :: [u0, u1]) h) else none | none => none) ?_ ?_
    · show (if a = -2 then _ else _) = _; rw [if_neg ha]; rfl
    · rw [hk]
  simp only [wpL, e]; exact wp_guard after_iff
theorem w_invokeinterface_2 {c c2 : Nat} {g k : Int} {u0 u1 : AV} : wpL d m ((.invokeinterface c c2, a, 2, [(g, k)]) :: is) L (u1 :: u0 :: .inr (.inr z) :: st) h Q ↔ ((ah_t h z).1 = g ∧ stw st ≤ 8) ∧ wpC d k.toNat (.inr (.inr z) :: [u0, u1]) h (kont d m is a L st Q) := by
  have e : ∀ n, exL (fun l => ex gP gML n d m l) (rC n d) ((.invokeinterface c c2, a, 2, [(g, k)]) :: is) L (u1 :: u0 :: .inr (.inr z) :: st) h = if (ah_t h z).1 = g ∧ stw st ≤ 8 then after (fun l => ex gP gML n d m l) (fun L st h => exL (fun l => ex gP gML n d m l) (rC n d) is L st h) a L st (rC n d k.toNat (.inr (.inr z) :: [u0, u1]) h) else none := by
    intro n
    refine Eq.trans (b := match asc [(g, k)] (ah_t h z).1 with | some y => if stw st ≤ 8 then after (fun l => ex gP gML n d m l) (fun L st h => exL (fun l => ex gP gML n d m l) (rC n d) is L st h) a L st (rC n d y.toNat (.inr (.inr z) :: [u0, u1]) h) else none | none => none) ?_ ?_
    · skip; rfl
    · by_cases hp : (ah_t h z).1 = g <;> by_cases hq : stw st ≤ 8 <;> simp only [asc, hp, hq, if_true, if_false, and_self, and_false, false_and, true_and]
  simp only [wpL, e]; exact wp_guard after_iff
theorem w_invokeinterface_2p {c c2 : Nat} {k : Int} {u0 u1 : AV} (hk : asc t (ah_t h z).1 = some k) : wpL d m ((.invokeinterface c c2, a, 2, t) :: is) L (u1 :: u0 :: .inr (.inr z) :: st) h Q ↔ stw st ≤ 8 ∧ wpC d k.toNat (.inr (.inr z) :: [u0, u1]) h (kont d m is a L st Q) := by
  have e : ∀ n, exL (fun l => ex gP gML n d m l) (rC n d) ((.invokeinterface c c2, a, 2, t) :: is) L (u1 :: u0 :: .inr (.inr z) :: st) h = if stw st ≤ 8 then after (fun l => ex gP gML n d m l) (fun L st h => exL (fun l => ex gP gML n d m l) (rC n d) is L st h) a L st (rC n d k.toNat (.inr (.inr z) :: [u0, u1]) h) else none := by
    intro n
    refine Eq.trans (b := match asc t (ah_t h z).1 with | some y => if stw st ≤ 8 then after (fun l => ex gP gML n d m l) (fun L st h => exL (fun l => ex gP gML n d m l) (rC n d) is L st h) a L st (rC n d y.toNat (.inr (.inr z) :: [u0, u1]) h) else none | none => none) ?_ ?_
    · skip; rfl
    · rw [hk]
  simp only [wpL, e]; exact wp_guard after_iff
theorem w_invokestatic_3 {c : Nat} {g k : Int} {u0 u1 u2 : AV} (ha : a ≠ -1) : wpL d m ((.invokestatic c, a, 3, (g, k) :: t) :: is) L (u2 :: u1 :: u0 :: st) h Q ↔ stw st ≤ 8 ∧ wpC d k.toNat [u0, u1, u2] h (kont d m is a L st Q) := by
  have e : ∀ n, exL (fun l => ex gP gML n d m l) (rC n d) ((.invokestatic c, a, 3, (g, k) :: t) :: is) L (u2 :: u1 :: u0 :: st) h = if stw st ≤ 8 then after (fun l => ex gP gML n d m l) (fun L st h => exL (fun l => ex gP gML n d m l) (rC n d) is L st h) a L st (rC n d k.toNat [u0, u1, u2] h) else none := by
    intro n; show (if a = -1 then _ else _) = _; rw [if_neg ha]
  simp only [wpL, e]; exact wp_guard after_iff
theorem w_invokespecial_3 {c : Nat} {g k : Int} {u0 u1 u2 : AV} (ha : a ≠ -3) : wpL d m ((.invokespecial c, a, 3, [(g, k)]) :: is) L (u2 :: u1 :: u0 :: .inr (.inr z) :: st) h Q ↔ ((ah_t h z).1 = g ∧ stw st ≤ 8) ∧ wpC d k.toNat (.inr (.inr z) :: [u0, u1, u2]) h (kont d m is a L st Q) := by
  have e : ∀ n, exL (fun l => ex gP gML n d m l) (rC n d) ((.invokespecial c, a, 3, [(g, k)]) :: is) L (u2 :: u1 :: u0 :: .inr (.inr z) :: st) h = if (ah_t h z).1 = g ∧ stw st ≤ 8 then after (fun l => ex gP gML n d m l) (fun L st h => exL (fun l => ex gP gML n d m l) (rC n d) is L st h) a L st (rC n d k.toNat (.inr (.inr z) :: [u0, u1, u2]) h) else none := by
    intro n
    refine Eq.trans (b := match asc [(g, k)] (ah_t h z).1 with | some y => if stw st ≤ 8 then after (fun l => ex gP gML n d m l) (fun L st h => exL (fun l => ex gP gML n d m l) (rC n d) is L st h) a L st (rC n d y.toNat (.inr (.inr z) :: [u0, u1, u2]) h) else none | none => none) ?_ ?_
    · show (if a = -3 then _ else _) = _; rw [if_neg ha]; rfl
    · by_cases hp : (ah_t h z).1 = g <;> by_cases hq : stw st ≤ 8 <;> simp only [asc, hp, hq, if_true, if_false, and_self, and_false, false_and, true_and]
  simp only [wpL, e]; exact wp_guard after_iff
theorem w_invokespecial_3p {c : Nat} {k : Int} {u0 u1 u2 : AV} (ha : a ≠ -3) (hk : asc t (ah_t h z).1 = some k) : wpL d m ((.invokespecial c, a, 3, t) :: is) L (u2 :: u1 :: u0 :: .inr (.inr z) :: st) h Q ↔ stw st ≤ 8 ∧ wpC d k.toNat (.inr (.inr z) :: [u0, u1, u2]) h (kont d m is a L st Q) := by
  have e : ∀ n, exL (fun l => ex gP gML n d m l) (rC n d) ((.invokespecial c, a, 3, t) :: is) L (u2 :: u1 :: u0 :: .inr (.inr z) :: st) h = if stw st ≤ 8 then after (fun l => ex gP gML n d m l) (fun L st h => exL (fun l => ex gP gML n d m l) (rC n d) is L st h) a L st (rC n d k.toNat (.inr (.inr z) :: [u0, u1, u2]) h) else none := by
    intro n
    refine Eq.trans (b := match asc t (ah_t h z).1 with | some y => if stw st ≤ 8 then after (fun l => ex gP gML n d m l) (fun L st h => exL (fun l => ex gP gML n d m l) (rC n d) is L st h) a L st (rC n d y.toNat (.inr (.inr z) :: [u0, u1, u2]) h) else none | none => none) ?_ ?_
    · show (if a = -3 then _ else _) = _; rw [if_neg ha]; rfl
    · rw [hk]
  simp only [wpL, e]; exact wp_guard after_iff
theorem w_invokevirtual_3 {c : Nat} {g k : Int} {u0 u1 u2 : AV} (ha : a ≠ -2) : wpL d m ((.invokevirtual c, a, 3, [(g, k)]) :: is) L (u2 :: u1 :: u0 :: .inr (.inr z) :: st) h Q ↔ ((ah_t h z).1 = g ∧ stw st ≤ 8) ∧ wpC d k.toNat (.inr (.inr z) :: [u0, u1, u2]) h (kont d m is a L st Q) := by
  have e : ∀ n, exL (fun l => ex gP gML n d m l) (rC n d) ((.invokevirtual c, a, 3, [(g, k)]) :: is) L (u2 :: u1 :: u0 :: .inr (.inr z) :: st) h = if (ah_t h z).1 = g ∧ stw st ≤ 8 then after (fun l => ex gP gML n d m l) (fun L st h => exL (fun l => ex gP gML n d m l) (rC n d) is L st h) a L st (rC n d k.toNat (.inr (.inr z) :: [u0, u1, u2]) h) else none := by
    intro n
    refine Eq.trans (b := match asc [(g, k)] (ah_t h z).1 with | some y => if stw st ≤ 8 then after (fun l => ex gP gML n d m l) (fun L st h => exL (fun l => ex gP gML n d m l) (rC n d) is L st h) a L st (rC n d y.toNat (.inr (.inr z) :: [u0, u1, u2]) h) else none | none => none) ?_ ?_
    · show (if a = -2 then _ else _) = _; rw [if_neg ha]; rfl
    · by_cases hp : (ah_t h z).1 = g <;> by_cases hq : stw st ≤ 8 <;> simp only [asc, hp, hq, if_true, if_false, and_self, and_false, false_and, true_and]
  simp only [wpL, e]; exact wp_guard after_iff
theorem w_invokevirtual_3p {c : Nat} {k : Int} {u0 u1 u2 : AV} (ha : a ≠ -2) (hk : asc t (ah_t h z).1 = some k) : wpL d m ((.invokevirtual c, a, 3, t) :: is) L (u2 :: u1 :: u0 :: .inr (.inr z) :: st) h Q ↔ stw st ≤ 8 ∧ wpC d k.toNat (.inr (.inr z) :: [u0, u1, u2]) h (kont d m is a L st Q) := by
  have e : ∀ n, exL (fun l => ex gP gML n d m l) (rC n d) ((.invokevirtual c, a, 3, t) :: is) L (u2 :: u1 :: u0 :: .inr (.inr z) :: st) h = if stw st ≤ 8 then after (fun l => ex gP gML n d m l) (fun L st h => exL (fun l => ex gP gML n d m l) (rC n d) is L st h) a L st (rC n d k.toNat (.inr (.inr z) :: [u0, u1, u2]) h) else none := by
    intro n
    refine Eq.trans (b := match asc t (ah_t h z).1 with | some y => if stw st ≤ 8 then after (fun l => ex gP gML n d m l) (fun L st h => exL (fun l => ex gP gML n d m l) (rC n d) is L st h) a L st (rC n d y.toNat (.inr (.inr z) :: [u0, u1, u2]) h) else none | none => none) ?_ ?_
    · show (if a = -2 then _ else _) = _; rw [if_neg ha]; rfl
    · rw [hk]
  simp only [wpL, e]; exact wp_guard after_iff
theorem w_invokeinterface_3 {c c2 : Nat} {g k : Int} {u0 u1 u2 : AV} : wpL d m ((.invokeinterface c c2, a, 3, [(g, k)]) :: is) L (u2 :: u1 :: u0 :: .inr (.inr z) :: st) h Q ↔ ((ah_t h z).1 = g ∧ stw st ≤ 8) ∧ wpC d k.toNat (.inr (.inr z) :: [u0, u1, u2]) h (kont d m is a L st Q) := by
  have e : ∀ n, exL (fun l => ex gP gML n d m l) (rC n d) ((.invokeinterface c c2, a, 3, [(g, k)]) :: is) L (u2 :: u1 :: u0 :: .inr (.inr z) :: st) h = if (ah_t h z).1 = g ∧ stw st ≤ 8 then after (fun l => ex gP gML n d m l) (fun L st h => exL (fun l => ex gP gML n d m l) (rC n d) is L st h) a L st (rC n d k.toNat (.inr (.inr z) :: [u0, u1, u2]) h) else none := by
    intro n
    refine Eq.trans (b := match asc [(g, k)] (ah_t h z).1 with | some y => if stw st ≤ 8 then after (fun l => ex gP gML n d m l) (fun L st h => exL (fun l => ex gP gML n d m l) (rC n d) is L st h) a L st (rC n d y.toNat (.inr (.inr z) :: [u0, u1, u2]) h) else none | none => none) ?_ ?_
    · skip; rfl
    · by_cases hp : (ah_t h z).1 = g <;> by_cases hq : stw st ≤ 8 <;> simp only [asc, hp, hq, if_true, if_false, and_self, and_false, false_and, true_and]
  simp only [wpL, e]; exact wp_guard after_iff
theorem w_invokeinterface_3p {c c2 : Nat} {k : Int} {u0 u1 u2 : AV} (hk : asc t (ah_t h z).1 = some k) : wpL d m ((.invokeinterface c c2, a, 3, t) :: is) L (u2 :: u1 :: u0 :: .inr (.inr z) :: st) h Q ↔ stw st ≤ 8 ∧ wpC d k.toNat (.inr (.inr z) :: [u0, u1, u2]) h (kont d m is a L st Q) := by
  have e : ∀ n, exL (fun l => ex gP gML n d m l) (rC n d) ((.invokeinterface c c2, a, 3, t) :: is) L (u2 :: u1 :: u0 :: .inr (.inr z) :: st) h = if stw st ≤ 8 then after (fun l => ex gP gML n d m l) (fun L st h => exL (fun l => ex gP gML n d m l) (rC n d) is L st h) a L st (rC n d k.toNat (.inr (.inr z) :: [u0, u1, u2]) h) else none := by
    intro n
    refine Eq.trans (b := match asc t (ah_t h z).1 with | some y => if stw st ≤ 8 then after (fun l => ex gP gML n d m l) (fun L st h => exL (fun l => ex gP gML n d m l) (rC n d) is L st h) a L st (rC n d y.toNat (.inr (.inr z) :: [u0, u1, u2]) h) else none | none => none) ?_ ?_
    · skip; rfl
    · rw [hk]
  simp only [wpL, e]; exact wp_guard after_iff
theorem w_invokestatic_4 {c : Nat} {g k : Int} {u0 u1 u2 u3 : AV} (ha : a ≠ -1) : wpL d m ((.invokestatic c, a, 4, (g, k) :: t) :: is) L (u3 :: u2 :: u1 :: u0 :: st) h Q ↔ stw st ≤ 8 ∧ wpC d k.toNat [u0, u1, u2, u3] h (kont d m is a L st Q) := by
  have e : ∀ n, exL (fun l => ex gP gML n d m l) (rC n d) ((.invokestatic c, a, 4, (g, k) :: t) :: is) L (u3 :: u2 :: u1 :: u0 :: st) h = if stw st ≤ 8 then after (fun l => ex gP gML n d m l) (fun L st h => exL (fun l => ex gP gML n d m l) (rC n d) is L st h) a L st (rC n d k.toNat [u0, u1, u2, u3] h) else none := by
    intro n; show (if a = -1 then _ else _) = _; rw [if_neg ha]
  simp only [wpL, e]; exact wp_guard after_iff
theorem w_invokespecial_4 {c : Nat} {g k : Int} {u0 u1 u2 u3 : AV} (ha : a ≠ -3) : wpL d m ((.invokespecial c, a, 4, [(g, k)]) :: is) L (u3 :: u2 :: u1 :: u0 :: .inr (.inr z) :: st) h Q ↔ ((ah_t h z).1 = g ∧ stw st ≤ 8) ∧ wpC d k.toNat (.inr (.inr z) :: [u0, u1, u2, u3]) h (kont d m is a L st Q) := by
  have e : ∀ n, exL (fun l => ex gP gML n d m l) (rC n d) ((.invokespecial c, a, 4, [(g, k)]) :: is) L (u3 :: u2 :: u1 :: u0 :: .inr (.inr z) :: st) h = if (ah_t h z).1 = g ∧ stw st ≤ 8 then after (fun l => ex gP gML n d m l) (fun L st h => exL (fun l => ex gP gML n d m l) (rC n d) is L st h) a L st (rC n d k.toNat (.inr (.inr z) :: [u0, u1, u2, u3]) h) else none := by
    intro n
    refine Eq.trans (b := match asc [(g, k)] (ah_t h z).1 with | some y => if stw st ≤ 8 then after (fun l => ex gP gML n d m l) (fun L st h => exL (fun l => ex gP gML n d m l) (rC n d) is L st h) a L st (rC n d y.toNat (.inr (.inr z) :: [u0, u1, u2, u3]) h) else none | none => none) ?_ ?_
    · show (if a = -3 then _ else _) = _; rw [if_neg ha]; rfl
    · by_cases hp : (ah_t h z).1 = g <;> by_cases hq : stw st ≤ 8 <;> simp only [asc, hp, hq, if_true, if_false, and_self, and_false, false_and, true_and]
  simp only [wpL, e]; exact wp_guard after_iff
theorem w_invokespecial_4p {c : Nat} {k : Int} {u0 u1 u2 u3 : AV} (ha : a ≠ -3) (hk : asc t (ah_t h z).1 = some k) : wpL d m ((.invokespecial c, a, 4, t) :: is) L (u3 :: u2 :: u1 :: u0 :: .inr (.inr z) :: st) h Q ↔ stw st ≤ 8 ∧ wpC d k.toNat (.inr (.inr z) :: [u0, u1, u2, u3]) h (kont d m is a L st Q) := by
  have e : ∀ n, exL (fun l => ex gP gML n d m l) (rC n d) ((.invokespecial c, a, 4, t) :: is) L (u3 :: u2 :: u1 :: u0 :: .inr (.inr z) :: st) h = if stw st ≤ 8 then after (fun l => ex gP gML n d m l) (fun L st h => exL (fun l => ex gP gML n d m l) (rC n d) is L st h) a L st (rC n d k.toNat (.inr (.inr z) :: [u0, u1, u2, u3]) h) else none := by
    intro n
    refine Eq.trans (b := match asc t (ah_t h z).1 with | some y => if stw st ≤ 8 then after (fun l => ex gP gML n d m l) (fun L st h => exL (fun l => ex gP gML n d m l) (rC n d) is L st h) a L st (rC n d y.toNat (.inr (.inr z) :: [u0, u1, u2, u3]) h) else none | none => none) ?_ ?_
    · show (if a = -3 then _ else _) = _; rw [if_neg ha]; rfl
    · rw [hk]
  simp only [wpL, e]; exact wp_guard after_iff
theorem w_invokevirtual_4 {c : Nat} {g k : Int} {u0 u1 u2 u3 : AV} (ha : a ≠ -2) : wpL d m ((.invokevirtual c, a, 4, [(g, k)]) :: is) L (u3 :: u2 :: u1 :: u0 :: .inr (.inr z) :: st) h Q ↔ ((ah_t h z).1 = g ∧ stw st ≤ 8) ∧ wpC d k.toNat (.inr (.inr z) :: [u0, u1, u2, u3]) h (kont d m is a L st Q) := by
  have e : ∀ n, exL (fun l => ex gP gML n d m l) (rC n d) ((.invokevirtual c, a, 4, [(g, k)]) :: is) L (u3 :: u2 :: u1 :: u0 :: .inr (.inr z) :: st) h = if (ah_t h z).1 = g ∧ stw st ≤ 8 then after (fun l => ex gP gML n d m l) (fun L st h => exL (fun l => ex gP gML n d m l) (rC n d) is L st h) a L st (rC n d k.toNat (.inr (.inr z) :: [u0, u1, u2, u3]) h) else none := by
    intro n
    refine Eq.trans (b := match asc [(g, k)] (ah_t h z).1 with | some y => if stw st ≤ 8 then after (fun l => ex gP gML n d m l) (fun L st h => exL (fun l => ex gP gML n d m l) (rC n d) is L st h) a L st (rC n d y.toNat (.inr (.inr z) :: [u0, u1, u2, u3]) h) else none | none => none) ?_ ?_
    · show (if a = -2 then _ else _) = _; rw [if_neg ha]; rfl
    · by_cases hp : (ah_t h z).1 = g <;> by_cases hq : stw st ≤ 8 <;> simp only [asc, hp, hq, if_true, if_false, and_self, and_false, false_and, true_and]
  simp only [wpL, e]; exact wp_guard after_iff
theorem w_invokevirtual_4p {c : Nat} {k : Int} {u0 u1 u2 u3 : AV} (ha : a ≠ -2) (hk : asc t (ah_t h z).1 = some k) : wpL d m ((.invokevirtual c, a, 4, t) :: is) L (u3 :: u2 :: u1 :: u0 :: .inr (.inr z) :: st) h Q ↔ stw st ≤ 8 ∧ wpC d k.toNat (.inr (.inr z) :: [u0, u1, u2, u3]) h (kont d m is a L st Q) := by
  have e : ∀ n, exL (fun l => ex gP gML n d m l) (rC n d) ((.invokevirtual c, a, 4, t) :: is) L (u3 :: u2 :: u1 :: u0 :: .inr (.inr z) :: st) h = if stw st ≤ 8 then after (fun l => ex gP gML n d m l) (fun L st h => exL (fun l => ex gP gML n d m l) (rC n d) is L st h) a L st (rC n d k.toNat (.inr (.inr z) :: [u0, u1, u2, u3]) h) else none := by
    intro n
    refine Eq.trans (b := match asc t (ah_t h z).1 with | some y => if stw st ≤ 8 then after (fun l => ex gP gML n d m l) (fun L st h => exL (fun l => ex gP gML n d m l) (rC n d) is L st h) a L st (rC n d y.toNat (.inr (.inr z) :: [u0, u1, u2, u3]) h) else none | none => none) ?_ ?_
    · show (if a = -2 then _ else _) = _; rw [if_neg ha]; rfl
    · rw [hk]
  simp only [wpL, e]; exact wp_guard after_iff
theorem w_invokeinterface_4 {c c2 : Nat} {g k : Int} {u0 u1 u2 u3 : AV} : wpL d m ((.invokeinterface c c2, a, 4, [(g, k)]) :: is) L (u3 :: u2 :: u1 :: u0 :: .inr (.inr z) :: st) h Q ↔ ((ah_t h z).1 = g ∧ stw st ≤ 8) ∧ wpC d k.toNat (.inr (.inr z) :: [u0, u1, u2, u3]) h (kont d m is a L st Q) := by
  have e : ∀ n, exL (fun l => ex gP gML n d m l) (rC n d) ((.invokeinterface c c2, a, 4, [(g, k)]) :: is) L (u3 :: u2 :: u1 :: u0 :: .inr (.inr z) :: st) h = if (ah_t h z).1 = g ∧ stw st ≤ 8 then after (fun l => ex gP gML n d m l) (fun L st h => exL (fun l => ex gP gML n d m l) (rC n d) is L st h) a L st (rC n d k.toNat (.inr (.inr z) :: [u0, u1, u2, u3]) h) else none := by
    intro n
    refine Eq.trans (b := match asc [(g, k)] (ah_t h z).1 with | some y => if stw st ≤ 8 then after (fun l => ex gP gML n d m l) (fun L st h => exL (fun l => ex gP gML n d m l) (rC n d) is L st h) a L st (rC n d y.toNat (.inr (.inr z) :: [u0, u1, u2, u3]) h) else none | none => none) ?_ ?_
    · skip; rfl
    · by_cases hp : (ah_t h z).1 = g <;> by_cases hq : stw st ≤ 8 <;> simp only [asc, hp, hq, if_true, if_false, and_self, and_false, false_and, true_and]
  simp only [wpL, e]; exact wp_guard after_iff
theorem w_invokeinterface_4p {c c2 : Nat} {k : Int} {u0 u1 u2 u3 : AV} (hk : asc t (ah_t h z).1 = some k) : wpL d m ((.invokeinterface c c2, a, 4, t) :: is) L (u3 :: u2 :: u1 :: u0 :: .inr (.inr z) :: st) h Q ↔ stw st ≤ 8 ∧ wpC d k.toNat (.inr (.inr z) :: [u0, u1, u2, u3]) h (kont d m is a L st Q) := by
  have e : ∀ n, exL (fun l => ex gP gML n d m l) (rC n d) ((.invokeinterface c c2, a, 4, t) :: is) L (u3 :: u2 :: u1 :: u0 :: .inr (.inr z) :: st) h = if stw st ≤ 8 then after (fun l => ex gP gML n d m l) (fun L st h => exL (fun l => ex gP gML n d m l) (rC n d) is L st h) a L st (rC n d k.toNat (.inr (.inr z) :: [u0, u1, u2, u3]) h) else none := by
    intro n
    refine Eq.trans (b := match asc t (ah_t h z).1 with | some y => if stw st ≤ 8 then after (fun l => ex gP gML n d m l) (fun L st h => exL (fun l => ex gP gML n d m l) (rC n d) is L st h) a L st (rC n d y.toNat (.inr (.inr z) :: [u0, u1, u2, u3]) h) else none | none => none) ?_ ?_
    · skip; rfl
    · rw [hk]
  simp only [wpL, e]; exact wp_guard after_iff
theorem w_invokestatic_5 {c : Nat} {g k : Int} {u0 u1 u2 u3 u4 : AV} (ha : a ≠ -1) : wpL d m ((.invokestatic c, a, 5, (g, k) :: t) :: is) L (u4 :: u3 :: u2 :: u1 :: u0 :: st) h Q ↔ stw st ≤ 8 ∧ wpC d k.toNat [u0, u1, u2, u3, u4] h (kont d m is a L st Q) := by
  have e : ∀ n, exL (fun l => ex gP gML n d m l) (rC n d) ((.invokestatic c, a, 5, (g, k) :: t) :: is) L (u4 :: u3 :: u2 :: u1 :: u0 :: st) h = if stw st ≤ 8 then after (fun l => ex gP gML n d m l) (fun L st h => exL (fun l => ex gP gML n d m l) (rC n d) is L st h) a L st (rC n d k.toNat [u0, u1, u2, u3, u4] h) else none := by
    intro n; show (if a = -1 then _ else _) = _; rw [if_neg ha]
  simp only [wpL, e]; exact wp_guard after_iff
theorem w_invokespecial_5 {c : Nat} {g k : Int} {u0 u1 u2 u3 u4 : AV} (ha : a ≠ -3) : wpL d m ((.invokespecial c, a, 5, [(g, k)]) :: is) L (u4 :: u3 :: u2 :: u1 :: u0 :: .inr (.inr z) :: st) h Q ↔ ((ah_t h z).1 = g ∧ stw st ≤ 8) ∧ wpC d k.toNat (.inr (.inr z) :: [u0, u1, u2, u3, u4]) h (kont d m is a L st Q) := by
  have e : ∀ n, exL (fun l => ex gP gML n d m l) (rC n d) ((.invokespecial c, a, 5, [(g, k)]) :: is) L (u4 :: u3 :: u2 :: u1 :: u0 :: .inr (.inr z) :: st) h = if (ah_t h z).1 = g ∧ stw st ≤ 8 then after (fun l => ex gP gML n d m l) (fun L st h => exL (fun l => ex gP gML n d m l) (rC n d) is L st h) a L st (rC n d k.toNat (.inr (.inr z) :: [u0, u1, u2, u3, u4]) h) else none := by
    intro n
    refine Eq.trans (b := match asc [(g, k)] (ah_t h z).1 with | some y => if stw st ≤ 8 then after (fun l => ex gP gML n d m l) (fun L st h => exL (fun l => ex gP gML n d m l) (rC n d) is L st h) a L st (rC n d y.toNat (.inr (.inr z) :: [u0, u1, u2, u3, u4]) h) else none | none => none) ?_ ?_
    · show (if a = -3 then _ else _) = _; rw [if_neg ha]; rfl
    · by_cases hp : (ah_t h z).1 = g <;> by_cases hq : stw st ≤ 8 <;> simp only [asc, hp, hq, if_true, if_false, and_self, and_false, false_and, true_and]
  simp only [wpL, e]; exact wp_guard after_iff
theorem w_invokespecial_5p {c : Nat} {k : Int} {u0 u1 u2 u3 u4 : AV} (ha : a ≠ -3) (hk : asc t (ah_t h z).1 = some k) : wpL d m ((.invokespecial c, a, 5, t) :: is) L (u4 :: u3 :: u2 :: u1 :: u0 :: .inr (.inr z) :: st) h Q ↔ stw st ≤ 8 ∧ wpC d k.toNat (.inr (.inr z) :: [u0, u1, u2, u3, u4]) h (kont d m is a L st Q) := by
  have e : ∀ n, exL (fun l => ex gP gML n d m l) (rC n d) ((.invokespecial c, a, 5, t) :: is) L (u4 :: u3 :: u2 :: u1 :: u0 :: .inr (.inr z) :: st) h = if stw st ≤ 8 then after (fun l => ex gP gML n d m l) (fun L st h => exL (fun l => ex gP gML n d m l) (rC n d) is L st h) a L st (rC n d k.toNat (.inr (.inr z) :: [u0, u1, u2, u3, u4]) h) else none := by
    intro n
    refine Eq.trans (b := match asc t (ah_t h z).1 with | some y => if stw st ≤ 8 then after (fun l => ex gP gML n d m l) (fun L st h => exL (fun l => ex gP gML n d m l) (rC n d) is L st h) a L st (rC n d y.toNat (.inr (.inr z) :: [u0, u1, u2, u3, u4]) h) else none | none => none) ?_ ?_
    · show (if a = -3 then _ else _) = _; rw [if_neg ha]; rfl
    · rw [hk]
  simp only [wpL, e]; exact wp_guard after_iff
theorem w_invokevirtual_5 {c : Nat} {g k : Int} {u0 u1 u2 u3 u4 : AV} (ha : a ≠ -2) : wpL d m ((.invokevirtual c, a, 5, [(g, k)]) :: is) L (u4 :: u3 :: u2 :: u1 :: u0 :: .inr (.inr z) :: st) h Q ↔ ((ah_t h z).1 = g ∧ stw st ≤ 8) ∧ wpC d k.toNat (.inr (.inr z) :: [u0, u1, u2, u3, u4]) h (kont d m is a L st Q) := by
  have e : ∀ n, exL (fun l => ex gP gML n d m l) (rC n d) ((.invokevirtual c, a, 5, [(g, k)]) :: is) L (u4 :: u3 :: u2 :: u1 :: u0 :: .inr (.inr z) :: st) h = if (ah_t h z).1 = g ∧ stw st ≤ 8 then after (fun l => ex gP gML n d m l) (fun L st h => exL (fun l => ex gP gML n d m l) (rC n d) is L st h) a L st (rC n d k.toNat (.inr (.inr z) :: [u0, u1, u2, u3, u4]) h) else none := by
    intro n
    refine Eq.trans (b := match asc [(g, k)] (ah_t h z).1 with | some y => if stw st ≤ 8 then after (fun l => ex gP gML n d m l) (fun L st h => exL (fun l => ex gP gML n d m l) (rC n d) is L st h) a L st (rC n d y.toNat (.inr (.inr z) :: [u0, u1, u2, u3, u4]) h) else none | none => none) ?_ ?_
    · show (if a = -2 then _ else _) = _; rw [if_neg ha]; rfl
    · by_cases hp : (ah_t h z).1 = g <;> by_cases hq : stw st ≤ 8 <;> simp only [asc, hp, hq, if_true, if_false, and_self, and_false, false_and, true_and]
  simp only [wpL, e]; exact wp_guard after_iff
theorem w_invokevirtual_5p {c : Nat} {k : Int} {u0 u1 u2 u3 u4 : AV} (ha : a ≠ -2) (hk : asc t (ah_t h z).1 = some k) : wpL d m ((.invokevirtual c, a, 5, t) :: is) L (u4 :: u3 :: u2 :: u1 :: u0 :: .inr (.inr z) :: st) h Q ↔ stw st ≤ 8 ∧ wpC d k.toNat (.inr (.inr z) :: [u0, u1, u2, u3, u4]) h (kont d m is a L st Q) := by
  have e : ∀ n, exL (fun l => ex gP gML n d m l) (rC n d) ((.invokevirtual c, a, 5, t) :: is) L (u4 :: u3 :: u2 :: u1 :: u0 :: .inr (.inr z) :: st) h = if stw st ≤ 8 then after (fun l => ex gP gML n d m l) (fun L st h => exL (fun l => ex gP gML n d m l) (rC n d) is L st h) a L st (rC n d k.toNat (.inr (.inr z) :: [u0, u1, u2, u3, u4]) h) else none := by
    intro n
    refine Eq.trans (b := match asc t (ah_t h z).1 with | some y => if stw st ≤ 8 then after (fun l => ex gP gML n d m l) (fun L st h => exL (fun l => ex gP gML n d m l) (rC n d) is L st h) a L st (rC n d y.toNat (.inr (.inr z) :: [u0, u1, u2, u3, u4]) h) else none | none => none) ?_ ?_
    · show (if a = -2 then _ else _) = _; rw [if_neg ha]; rfl
    · rw [hk]
  simp only [wpL, e]; exact wp_guard after_iff
theorem w_invokeinterface_5 {c c2 : Nat} {g k : Int} {u0 u1 u2 u3 u4 : AV} : wpL d m ((.invokeinterface c c2, a, 5, [(g, k)]) :: is) L (u4 :: u3 :: u2 :: u1 :: u0 :: .inr (.inr z) :: st) h Q ↔ ((ah_t h z).1 = g ∧ stw st ≤ 8) ∧ wpC d k.toNat (.inr (.inr z) :: [u0, u1, u2, u3, u4]) h (kont d m is a L st Q) := by
  have e : ∀ n, exL (fun l => ex gP gML n d m l) (rC n d) ((.invokeinterface c c2, a, 5, [(g, k)]) :: is) L (u4 :: u3 :: u2 :: u1 :: u0 :: .inr (.inr z) :: st) h = if (ah_t h z).1 = g ∧ stw st ≤ 8 then after (fun l => ex gP gML n d m l) (fun L st h => exL (fun l => ex gP gML n d m l) (rC n d) is L st h) a L st (rC n d k.toNat (.inr (.inr z) :: [u0, u1, u2, u3, u4]) h) else none := by
    intro n
    refine Eq.trans (b := match asc [(g, k)] (ah_t h z).1 with | some y => if stw st ≤ 8 then after (fun l => ex gP gML n d m l) (fun L st h => exL (fun l => ex gP gML n d m l) (rC n d) is L st h) a L st (rC n d y.toNat (.inr (.inr z) :: [u0, u1, u2, u3, u4]) h) else none | none => none) ?_ ?_
    · skip; rfl
    · by_cases hp : (ah_t h z).1 = g <;> by_cases hq : stw st ≤ 8 <;> simp only [asc, hp, hq, if_true, if_false, and_self, and_false, false_and, true_and]
  simp only [wpL, e]; exact wp_guard after_iff
theorem w_invokeinterface_5p {c c2 : Nat} {k : Int} {u0 u1 u2 u3 u4 : AV} (hk : asc t (ah_t h z).1 = some k) : wpL d m ((.invokeinterface c c2, a, 5, t) :: is) L (u4 :: u3 :: u2 :: u1 :: u0 :: .inr (.inr z) :: st) h Q ↔ stw st ≤ 8 ∧ wpC d k.toNat (.inr (.inr z) :: [u0, u1, u2, u3, u4]) h (kont d m is a L st Q) := by
  have e : ∀ n, exL (fun l => ex gP gML n d m l) (rC n d) ((.invokeinterface c c2, a, 5, t) :: is) L (u4 :: u3 :: u2 :: u1 :: u0 :: .inr (.inr z) :: st) h = if stw st ≤ 8 then after (fun l => ex gP gML n d m l) (fun L st h => exL (fun l => ex gP gML n d m l) (rC n d) is L st h) a L st (rC n d k.toNat (.inr (.inr z) :: [u0, u1, u2, u3, u4]) h) else none := by
    intro n
    refine Eq.trans (b := match asc t (ah_t h z).1 with | some y => if stw st ≤ 8 then after (fun l => ex gP gML n d m l) (fun L st h => exL (fun l => ex gP gML n d m l) (rC n d) is L st h) a L st (rC n d y.toNat (.inr (.inr z) :: [u0, u1, u2, u3, u4]) h) else none | none => none) ?_ ?_
    · skip; rfl
    · rw [hk]
  simp only [wpL, e]; exact wp_guard after_iff
theorem w_invokestatic_6 {c : Nat} {g k : Int} {u0 u1 u2 u3 u4 u5 : AV} (ha : a ≠ -1) : wpL d m ((.invokestatic c, a, 6, (g, k) :: t) :: is) L (u5 :: u4 :: u3 :: u2 :: u1 :: u0 :: st) h Q ↔ stw st ≤ 8 ∧ wpC d k.toNat [u0, u1, u2, u3, u4, u5] h (kont d m is a L st Q) := by
  have e : ∀ n, exL (fun l => ex gP gML n d m l) (rC n d) ((.invokestatic c, a, 6, (g, k) :: t) :: is) L (u5 :: u4 :: u3 :: u2 :: u1 :: u0 :: st) h = if stw st ≤ 8 then after (fun l => ex gP gML n d m l) (fun L st h => exL (fun l => ex gP gML n d m l) (rC n d) is L st h) a L st (rC n d k.toNat [u0, u1, u2, u3, u4, u5] h) else none := by
    intro n; show (if a = -1 then _ else _) = _; rw [if_neg ha]
  simp only [wpL, e]; exact wp_guard after_iff
theorem w_invokespecial_6 {c : Nat} {g k : Int} {u0 u1 u2 u3 u4 u5 : AV} (ha : a ≠ -3) : wpL d m ((.invokespecial c, a, 6, [(g, k)]) :: is) L (u5 :: u4 :: u3 :: u2 :: u1 :: u0 :: .inr (.inr z) :: st) h Q ↔ ((ah_t h z).1 = g ∧ stw st ≤ 8) ∧ wpC d k.toNat (.inr (.inr z) :: [u0, u1, u2, u3, u4, u5]) h (kont d m is a L st Q) := by
  have e : ∀ n, exL (fun l => ex gP gML n d m l) (rC n d) ((.invokespecial c, a, 6, [(g, k)]) :: is) L (u5 :: u4 :: u3 :: u2 :: u1 :: u0 :: .inr (.inr z) :: st) h = if (ah_t h z).1 = g ∧ stw st ≤ 8 then after (fun l => ex gP gML n d m l) (fun L st h => exL (fun l => ex gP gML n d m l) (rC n d) is L st h) a L st (rC n d k.toNat (.inr (.inr z) :: [u0, u1, u2, u3, u4, u5]) h) else none := by
    intro n
    refine Eq.trans (b := match asc [(g, k)] (ah_t h z).1 with | some y => if stw st ≤ 8 then after (fun l => ex gP gML n d m l) (fun L st h => exL (fun l => ex gP gML n d m l) (rC n d) is L st h) a L st (rC n d y.toNat (.inr (.inr z) :: [u0, u1, u2, u3, u4, u5]) h) else none | none => none) ?_ ?_
    · show (if a = -3 then _ else _) = _; rw [if_neg ha]; rfl
    · by_cases hp : (ah_t h z).1 = g <;> by_cases hq : stw st ≤ 8 <;> simp only [asc, hp, hq, if_true, if_false, and_self, and_false, false_and, true_and]
  simp only [wpL, e]; exact wp_guard after_iff
theorem w_invokespecial_6p {c : Nat} {k : Int} {u0 u1 u2 u3 u4 u5 : AV} (ha : a ≠ -3) (hk : asc t (ah_t h z).1 = some k) : wpL d m ((.invokespecial c, a, 6, t) :: is) L (u5 :: u4 :: u3 :: u2 :: u1 :: u0 :: .inr (.inr z) :: st) h Q ↔ stw st ≤ 8 ∧ wpC d k.toNat (.inr (.inr z) :: [u0, u1, u2, u3, u4, u5]) h (kont d m is a L st Q) := by
  have e : ∀ n, exL (fun l => ex gP gML n d m l) (rC n d) ((.invokespecial c, a, 6, t) :: is) L (u5 :: u4 :: u3 :: u2 :: u1 :: u0 :: .inr (.inr z) :: st) h = if stw st ≤ 8 then after (fun l => ex gP gML n d m l) (fun L st h => exL (fun l => ex gP gML n d m l) (rC n d) is L st h) a L st (rC n d k.toNat (.inr (.inr z) :: [u0, u1, u2, u3, u4, u5]) h) else none := by
    intro n
    refine Eq.trans (b := match asc t (ah_t h z).1 with | some y => if stw st ≤ 8 then after (fun l => ex gP gML n d m l) (fun L st h => exL (fun l => ex gP gML n d m l) (rC n d) is L st h) a L st (rC n d y.toNat (.inr (.inr z) :: [u0, u1, u2, u3, u4, u5]) h) else none | none => none) ?_ ?_
    · show (if a = -3 then _ else _) = _; rw [if_neg ha]; rfl
    · rw [hk]
  simp only [wpL, e]; exact wp_guard after_iff
theorem w_invokevirtual_6 {c : Nat} {g k : Int} {u0 u1 u2 u3 u4 u5 : AV} (ha : a ≠ -2) : wpL d m ((.invokevirtual c, a, 6, [(g, k)]) :: is) L (u5 :: u4 :: u3 :: u2 :: u1 :: u0 :: .inr (.inr z) :: st) h Q ↔ ((ah_t h z).1 = g ∧ stw st ≤ 8) ∧ wpC d k.toNat (.inr (.inr z) :: [u0, u1, u2, u3, u4, u5]) h (kont d m is a L st Q) := by
  have e : ∀ n, exL (fun l => ex gP gML n d m l) (rC n d) ((.invokevirtual c, a, 6, [(g, k)]) :: is) L (u5 :: u4 :: u3 :: u2 :: u1 :: u0 :: .inr (.inr z) :: st) h = if (ah_t h z).1 = g ∧ stw st ≤ 8 then after (fun l => ex gP gML n d m l) (fun L st h => exL (fun l => ex gP gML n d m l) (rC n d) is L st h) a L st (rC n d k.toNat (.inr (.inr z) :: [u0, u1, u2, u3, u4, u5]) h) else none := by
    intro n
    refine Eq.trans (b := match asc [(g, k)] (ah_t h z).1 with | some y => if stw st ≤ 8 then after (fun l => ex gP gML n d m l) (fun L st h => exL (fun l => ex gP gML n d m l) (rC n d) is L st h) a L st (rC n d y.toNat (.inr (.inr z) :: [u0, u1, u2, u3, u4, u5]) h) else none | none => none) ?_ ?_
    · show (if a = -2 then _ else _) = _; rw [if_neg ha]; rfl
    · by_cases hp : (ah_t h z).1 = g <;> by_cases hq : stw st ≤ 8 <;> simp only [asc, hp, hq, if_true, if_false, and_self, and_false, false_and, true_and]
  simp only [wpL, e]; exact wp_guard after_iff
theorem w_invokevirtual_6p {c : Nat} {k : Int} {u0 u1 u2 u3 u4 u5 : AV} (ha : a ≠ -2) (hk : asc t (ah_t h z).1 = some k) : wpL d m ((.invokevirtual c, a, 6, t) :: is) L (u5 :: u4 :: u3 :: u2 :: u1 :: u0 :: .inr (.inr z) :: st) h Q ↔ stw st ≤ 8 ∧ wpC d k.toNat (.inr (.inr z) :: [u0, u1, u2, u3, u4, u5]) h (kont d m is a L st Q) := by
  have e : ∀ n, exL (fun l => ex gP gML n d m l) (rC n d) ((.invokevirtual c, a, 6, t) :: is) L (u5 :: u4 :: u3 :: u2 :: u1 :: u0 :: .inr (.inr z) :: st) h = if stw st ≤ 8 then after (fun l => ex gP gML n d m l) (fun L st h => exL (fun l => ex gP gML n d m l) (rC n d) is L st h) a L st (rC n d k.toNat (.inr (.inr z) :: [u0, u1, u2, u3, u4, u5]) h) else none := by
    intro n
    refine Eq.trans (b := match asc t (ah_t h z).1 with | some y => if stw st ≤ 8 then after (fun l => ex gP gML n d m l) (fun L st h => exL (fun l => ex gP gML n d m l) (rC n d) is L st h) a L st (rC n d y.toNat (.inr (.inr z) :: [u0, u1, u2, u3, u4, u5]) h) else none | none => none) ?_ ?_
    · show (if a = -2 then _ else _) = _; rw [if_neg ha]; rfl
    · rw [hk]
  simp only [wpL, e]; exact wp_guard after_iff
theorem w_invokeinterface_6 {c c2 : Nat} {g k : Int} {u0 u1 u2 u3 u4 u5 : AV} : wpL d m ((.invokeinterface c c2, a, 6, [(g, k)]) :: is) L (u5 :: u4 :: u3 :: u2 :: u1 :: u0 :: .inr (.inr z) :: st) h Q ↔ ((ah_t h z).1 = g ∧ stw st ≤ 8) ∧ wpC d k.toNat (.inr (.inr z) :: [u0, u1, u2, u3, u4, u5]) h (kont d m is a L st Q) := by
  have e : ∀ n, exL (fun l => ex gP gML n d m l) (rC n d) ((.invokeinterface c c2, a, 6, [(g, k)]) :: is) L (u5 :: u4 :: u3 :: u2 :: u1 :: u0 :: .inr (.inr z) :: st) h = if (ah_t h z).1 = g ∧ stw st ≤ 8 then after (fun l => ex gP gML n d m l) (fun L st h => exL (fun l => ex gP gML n d m l) (rC n d) is L st h) a L st (rC n d k.toNat (.inr (.inr z) :: [u0, u1, u2, u3, u4, u5]) h) else none := by
    intro n
    refine Eq.trans (b := match asc [(g, k)] (ah_t h z).1 with | some y => if stw st ≤ 8 then after (fun l => ex gP gML n d m l) (fun L st h => exL (fun l => ex gP gML n d m l) (rC n d) is L st h) a L st (rC n d y.toNat (.inr (.inr z) :: [u0, u1, u2, u3, u4, u5]) h) else none | none => none) ?_ ?_
    · skip; rfl
    · by_cases hp : (ah_t h z).1 = g <;> by_cases hq : stw st ≤ 8 <;> simp only [asc, hp, hq, if_true, if_false, and_self, and_false, false_and, true_and]
  simp only [wpL, e]; exact wp_guard after_iff
theorem w_invokeinterface_6p {c c2 : Nat} {k : Int} {u0 u1 u2 u3 u4 u5 : AV} (hk : asc t (ah_t h z).1 = some k) : wpL d m ((.invokeinterface c c2, a, 6, t) :: is) L (u5 :: u4 :: u3 :: u2 :: u1 :: u0 :: .inr (.inr z) :: st) h Q ↔ stw st ≤ 8 ∧ wpC d k.toNat (.inr (.inr z) :: [u0, u1, u2, u3, u4, u5]) h (kont d m is a L st Q) := by
  have e : ∀ n, exL (fun l => ex gP gML n d m l) (rC n d) ((.invokeinterface c c2, a, 6, t) :: is) L (u5 :: u4 :: u3 :: u2 :: u1 :: u0 :: .inr (.inr z) :: st) h = if stw st ≤ 8 then after (fun l => ex gP gML n d m l) (fun L st h => exL (fun l => ex gP gML n d m l) (rC n d) is L st h) a L st (rC n d k.toNat (.inr (.inr z) :: [u0, u1, u2, u3, u4, u5]) h) else none := by
    intro n
    refine Eq.trans (b := match asc t (ah_t h z).1 with | some y => if stw st ≤ 8 then after (fun l => ex gP gML n d m l) (fun L st h => exL (fun l => ex gP gML n d m l) (rC n d) is L st h) a L st (rC n d y.toNat (.inr (.inr z) :: [u0, u1, u2, u3, u4, u5]) h) else none | none => none) ?_ ?_
    · skip; rfl
    · rw [hk]
  simp only [wpL, e]; exact wp_guard after_iff
theorem w_invokestatic_7 {c : Nat} {g k : Int} {u0 u1 u2 u3 u4 u5 u6 : AV} (ha : a ≠ -1) : wpL d m ((.invokestatic c, a, 7, (g, k) :: t) :: is) L (u6 :: u5 :: u4 :: u3 :: u2 :: u1 :: u0 :: st) h Q ↔ stw st ≤ 8 ∧ wpC d k.toNat [u0, u1, u2, u3, u4, u5, u6] h (kont d m is a L st Q) := by
  have e : ∀ n, exL (fun l => ex gP gML n d m l) (rC n d) ((.invokestatic c, a, 7, (g, k) :: t) :: is) L (u6 :: u5 :: u4 :: u3 :: u2 :: u1 :: u0 :: st) h = if stw st ≤ 8 then after (fun l => ex gP gML n d m l) (fun L st h => exL (fun l => ex gP gML n d m l) (rC n d) is L st h) a L st (rC n d k.toNat [u0, u1, u2, u3, u4, u5, u6] h) else none := by
    intro n; show (if a = -1 then _ else _) = _; rw [if_neg ha]
  simp only [wpL, e]; exact wp_guard after_iff
theorem w_invokespecial_7 {c : Nat} {g k : Int} {u0 u1 u2 u3 u4 u5 u6 : AV} (ha : a ≠ -3) : wpL d m ((.invokespecial c, a, 7, [(g, k)]) :: is) L (u6 :: u5 :: u4 :: u3 :: u2 :: u1 :: u0 :: .inr (.inr z) :: st) h Q ↔ ((ah_t h z).1 = g ∧ stw st ≤ 8) ∧ wpC d k.toNat (.inr (.inr z) :: [u0, u1, u2, u3, u4, u5, u6]) h (kont d m is a L st Q) := by
  have e : ∀ n, exL (fun l => ex gP gML n d m l) (rC n d) ((.invokespecial c, a, 7, [(g, k)]) :: is) L (u6 :: u5 :: u4 :: u3 :: u2 :: u1 :: u0 :: .inr (.inr z) :: st) h = if (ah_t h z).1 = g ∧ stw st ≤ 8 then after (fun l => ex gP gML n d m l) (fun L st h => exL (fun l => ex gP gML n d m l) (rC n d) is L st h) a L st (rC n d k.toNat (.inr (.inr z) :: [u0, u1, u2, u3, u4, u5, u6]) h) else none := by
    intro n
    refine Eq.trans (b := match asc [(g, k)] (ah_t h z).1 with | some y => if stw st ≤ 8 then after (fun l => ex gP gML n d m l) (fun L st h => exL (fun l => ex gP gML n d m l) (rC n d) is L st h) a L st (rC n d y.toNat (.inr (.inr z) :: [u0, u1, u2, u3, u4, u5, u6]) h) else none | none => none) ?_ ?_
    · show (if a = -3 then _ else _) = _; rw [if_neg ha]; rfl
    · by_cases hp : (ah_t h z).1 = g <;> by_cases hq : stw st ≤ 8 <;> simp only [asc, hp, hq, if_true, if_false, and_self, and_false, false_and, true_and]
  simp only [wpL, e]; exact wp_guard after_iff
theorem w_invokespecial_7p {c : Nat} {k : Int} {u0 u1 u2 u3 u4 u5 u6 : AV} (ha : a ≠ -3) (hk : asc t (ah_t h z).1 = some k) : wpL d m ((.invokespecial c, a, 7, t) :: is) L (u6 :: u5 :: u4 :: u3 :: u2 :: u1 :: u0 :: .inr (.inr z) :: st) h Q ↔ stw st ≤ 8 ∧ wpC d k.toNat (.inr (.inr z) :: [u0, u1, u2, u3, u4, u5, u6]) h (kont d m is a L st Q) := by
  have e : ∀ n, exL (fun l => ex gP gML n d m l) (rC n d) ((.invokespecial c, a, 7, t) :: is) L (u6 :: u5 :: u4 :: u3 :: u2 :: u1 :: u0 :: .inr (.inr z) :: st) h = if stw st ≤ 8 then after (fun l => ex gP gML n d m l) (fun L st h => exL (fun l => ex gP gML n d m l) (rC n d) is L st h) a L st (rC n d k.toNat (.inr (.inr z) :: [u0, u1, u2, u3, u4, u5, u6]) h) else none := by
    intro n
    refine Eq.trans (b := match asc t (ah_t h z).1 with | some y => if stw st ≤ 8 then after (fun l => ex gP gML n d m l) (fun L st h => exL (fun l => ex gP gML n d m l) (rC n d) is L st h) a L st (rC n d y.toNat (.inr (.inr z) :: [u0, u1, u2, u3, u4, u5, u6]) h) else none | none => none) ?_ ?_
    · show (if a = -3 then _ else _) = _; rw [if_neg ha]; rfl
    · rw [hk]
  simp only [wpL, e]; exact wp_guard after_iff
theorem w_invokevirtual_7 {c : Nat} {g k : Int} {u0 u1 u2 u3 u4 u5 u6 : AV} (ha : a ≠ -2) : wpL d m ((.invokevirtual c, a, 7, [(g, k)]) :: is) L (u6 :: u5 :: u4 :: u3 :: u2 :: u1 :: u0 :: .inr (.inr z) :: st) h Q ↔ ((ah_t h z).1 = g ∧ stw st ≤ 8) ∧ wpC d k.toNat (.inr (.inr z) :: [u0, u1, u2, u3, u4, u5, u6]) h (kont d m is a L st Q) := by
  have e : ∀ n, exL (fun l => ex gP gML n d m l) (rC n d) ((.invokevirtual c, a, 7, [(g, k)]) :: is) L (u6 :: u5 :: u4 :: u3 :: u2 :: u1 :: u0 :: .inr (.inr z) :: st) h = if (ah_t h z).1 = g ∧ stw st ≤ 8 then after (fun l => ex gP gML n d m l) (fun L st h => exL (fun l => ex gP gML n d m l) (rC n d) is L st h) a L st (rC n d k.toNat (.inr (.inr z) :: [u0, u1, u2, u3, u4, u5, u6]) h) else none := by
    intro n
    refine Eq.trans (b := match asc [(g, k)] (ah_t h z).1 with | some y => if stw st ≤ 8 then after (fun l => ex gP gML n d m l) (fun L st h => exL (fun l => ex gP gML n d m l) (rC n d) is L st h) a L st (rC n d y.toNat (.inr (.inr z) :: [u0, u1, u2, u3, u4, u5, u6]) h) else none | none => none) ?_ ?_
    · show (if a = -2 then _ else _) = _; rw [if_neg ha]; rfl
    · by_cases hp : (ah_t h z).1 = g <;> by_cases hq : stw st ≤ 8 <;> simp only [asc, hp, hq, if_true, if_false, and_self, and_false, false_and, true_and]
  simp only [wpL, e]; exact wp_guard after_iff
theorem w_invokevirtual_7p {c : Nat} {k : Int} {u0 u1 u2 u3 u4 u5 u6 : AV} (ha : a ≠ -2) (hk : asc t (ah_t h z).1 = some k) : wpL d m ((.invokevirtual c, a, 7, t) :: is) L (u6 :: u5 :: u4 :: u3 :: u2 :: u1 :: u0 :: .inr (.inr z) :: st) h Q ↔ stw st ≤ 8 ∧ wpC d k.toNat (.inr (.inr z) :: [u0, u1, u2, u3, u4, u5, u6]) h (kont d m is a L st Q) := by
  have e : ∀ n, exL (fun l => ex gP gML n d m l) (rC n d) ((.invokevirtual c, a, 7, t) :: is) L (u6 :: u5 :: u4 :: u3 :: u2 :: u1 :: u0 :: .inr (.inr z) :: st) h = if stw st ≤ 8 then after (fun l => ex gP gML n d m l) (fun L st h => exL (fun l => ex gP gML n d m l) (rC n d) is L st h) a L st (rC n d k.toNat (.inr (.inr z) :: [u0, u1, u2, u3, u4, u5, u6]) h) else none := by
    intro n
    refine Eq.trans (b := match asc t (ah_t h z).1 with | some y => if stw st ≤ 8 then after (fun l => ex gP gML n d m l) (fun L st h => exL (fun l => ex gP gML n d m l) (rC n d) is L st h) a L st (rC n d y.toNat (.inr (.inr z) :: [u0, u1, u2, u3, u4, u5, u6]) h) else none | none => none) ?_ ?_
    · show (if a = -2 then _ else _) = _; rw [if_neg ha]; rfl
    · rw [hk]
  simp only [wpL, e]; exact wp_guard after_iff
theorem w_invokeinterface_7 {c c2 : Nat} {g k : Int} {u0 u1 u2 u3 u4 u5 u6 : AV} : wpL d m ((.invokeinterface c c2, a, 7, [(g, k)]) :: is) L (u6 :: u5 :: u4 :: u3 :: u2 :: u1 :: u0 :: .inr (.inr z) :: st) h Q ↔ ((ah_t h z).1 = g ∧ stw st ≤ 8) ∧ wpC d k.toNat (.inr (.inr z) :: [u0, u1, u2, u3, u4, u5, u6]) h (kont d m is a L st Q) := by
  have e : ∀ n, exL (fun l => ex gP gML n d m l) (rC n d) ((.invokeinterface c c2, a, 7, [(g, k)]) :: is) L (u6 :: u5 :: u4 :: u3 :: u2 :: u1 :: u0 :: .inr (.inr z) :: st) h = if (ah_t h z).1 = g ∧ stw st ≤ 8 then after (fun l => ex gP gML n d m l) (fun L st h => exL (fun l => ex gP gML n d m l) (rC n d) is L st h) a L st (rC n d k.toNat (.inr (.inr z) :: [u0, u1, u2, u3, u4, u5, u6]) h) else none := by
    intro n
    refine Eq.trans (b := match asc [(g, k)] (ah_t h z).1 with | some y => if stw st ≤ 8 then after (fun l => ex gP gML n d m l) (fun L st h => exL (fun l => ex gP gML n d m l) (rC n d) is L st h) a L st (rC n d y.toNat (.inr (.inr z) :: [u0, u1, u2, u3, u4, u5, u6]) h) else none | none => none) ?_ ?_
    · skip; rfl
    · by_cases hp : (ah_t h z).1 = g <;> by_cases hq : stw st ≤ 8 <;> simp only [asc, hp, hq, if_true, if_false, and_self, and_false, false_and, true_and]
  simp only [wpL, e]; exact wp_guard after_iff
theorem w_invokeinterface_7p {c c2 : Nat} {k : Int} {u0 u1 u2 u3 u4 u5 u6 : AV} (hk : asc t (ah_t h z).1 = some k) : wpL d m ((.invokeinterface c c2, a, 7, t) :: is) L (u6 :: u5 :: u4 :: u3 :: u2 :: u1 :: u0 :: .inr (.inr z) :: st) h Q ↔ stw st ≤ 8 ∧ wpC d k.toNat (.inr (.inr z) :: [u0, u1, u2, u3, u4, u5, u6]) h (kont d m is a L st Q) := by
  have e : ∀ n, exL (fun l => ex gP gML n d m l) (rC n d) ((.invokeinterface c c2, a, 7, t) :: is) L (u6 :: u5 :: u4 :: u3 :: u2 :: u1 :: u0 :: .inr (.inr z) :: st) h = if stw st ≤ 8 then after (fun l => ex gP gML n d m l) (fun L st h => exL (fun l => ex gP gML n d m l) (rC n d) is L st h) a L st (rC n d k.toNat (.inr (.inr z) :: [u0, u1, u2, u3, u4, u5, u6]) h) else none := by
    intro n
    refine Eq.trans (b := match asc t (ah_t h z).1 with | some y => if stw st ≤ 8 then after (fun l => ex gP gML n d m l) (fun L st h => exL (fun l => ex gP gML n d m l) (rC n d) is L st h) a L st (rC n d y.toNat (.inr (.inr z) :: [u0, u1, u2, u3, u4, u5, u6]) h) else none | none => none) ?_ ?_
    · skip; rfl
    · rw [hk]
  simp only [wpL, e]; exact wp_guard after_iff
theorem w_objinit {c : Nat} : wpL d m ((.invokespecial c, -3, b, t) :: is) L (.inr (.inr z) :: st) h Q ↔ (0 < z ∧ stw st ≤ 8) ∧ wpL d m is L st h Q := by
  by_cases hp : (0 < z ∧ stw st ≤ 8) <;> simp [wpL, exL, hp]
theorem w_getclass {c : Nat} : wpL d m ((.invokevirtual c, -2, b, t) :: is) L (.inr (.inr z) :: st) h Q ↔ ((ah_t h z).1 = -10 ∧ stw st ≤ 8) ∧ wpL d m is L (.inr (.inr b) :: st) h Q := by
  by_cases hp : ((ah_t h z).1 = -10 ∧ stw st ≤ 8) <;> simp [wpL, exL, hp]
end WPI
