/-! A run's equation: a step goes on at one place, ends, or stops, whatever comes behind it -/
set_option maxRecDepth 100000
def am_Tl (f : (R : Type) → am_Kt R → (Value → am_St → Option R) → Option R) : Prop :=
  (∀ R k fin, f R k fin = none) ∨ (∃ pc ls st s, ∀ R k fin, f R k fin = k pc ls st s) ∨ (∃ v s, ∀ R k fin, f R k fin = fin v s)
section TL
variable {F : (R : Type) → am_Kt R → (Value → am_St → Option R) → Option R}
theorem am_Tl.no : am_Tl (fun _ _ _ => none) := Or.inl fun _ _ _ => rfl
theorem am_Tl.go (pc : Nat) (ls : List (Option Value)) (st : List Value) (s : am_St) : am_Tl (fun _ k _ => k pc ls st s) := Or.inr (Or.inl ⟨pc, ls, st, s, fun _ _ _ => rfl⟩)
theorem am_Tl.fin (v : Value) (s : am_St) : am_Tl (fun _ _ fin => fin v s) := Or.inr (Or.inr ⟨v, s, fun _ _ _ => rfl⟩)
theorem am_Tl.if_ {b : Bool} (h : am_Tl F) : am_Tl (fun R k fin => am_if b (F R k fin)) := by
  cases b
  · exact am_Tl.no
  · exact h
theorem am_Tl.ln {a b : Nat} (h : am_Tl F) : am_Tl (fun R k fin => am_ln a b (F R k fin)) := by
  unfold am_ln
  cases Nat.beq a b
  · exact am_Tl.no
  · exact h
theorem am_Tl.cond {b : Bool} {F' : (R : Type) → am_Kt R → (Value → am_St → Option R) → Option R} (h : am_Tl F) (h' : am_Tl F') : am_Tl (fun R k fin => cond b (F R k fin) (F' R k fin)) := by
  cases b
  · exact h'
  · exact h
theorem am_Tl.ite {c : Prop} [Decidable c] {F' : (R : Type) → am_Kt R → (Value → am_St → Option R) → Option R} (h : am_Tl F) (h' : am_Tl F') : am_Tl (fun R k fin => if c then F R k fin else F' R k fin) := by
  by_cases hc : c
  · simpa [hc] using h
  · simpa [hc] using h'
theorem am_Tl.p1i {st : List Value} {f : Int32 → List Value → (R : Type) → am_Kt R → (Value → am_St → Option R) → Option R} (h : ∀ x r, am_Tl (f x r)) : am_Tl (fun R k fin => am_p1i st fun x r => f x r R k fin) := by
  match st with
  | .int x :: r => exact h x r
  | [] | .long _ :: _ | .float _ :: _ | .double _ :: _ | .null :: _ | .ref _ :: _ | .retAddr _ :: _ => exact am_Tl.no
theorem am_Tl.p1l {st : List Value} {f : Int64 → List Value → (R : Type) → am_Kt R → (Value → am_St → Option R) → Option R} (h : ∀ x r, am_Tl (f x r)) : am_Tl (fun R k fin => am_p1l st fun x r => f x r R k fin) := by
  match st with
  | .long x :: r => exact h x r
  | [] | .int _ :: _ | .float _ :: _ | .double _ :: _ | .null :: _ | .ref _ :: _ | .retAddr _ :: _ => exact am_Tl.no
theorem am_Tl.p1r {st : List Value} {f : Nat → List Value → (R : Type) → am_Kt R → (Value → am_St → Option R) → Option R} (h : ∀ x r, am_Tl (f x r)) : am_Tl (fun R k fin => am_p1r st fun x r => f x r R k fin) := by
  match st with
  | .ref x :: r => exact h x r
  | [] | .int _ :: _ | .float _ :: _ | .double _ :: _ | .null :: _ | .long _ :: _ | .retAddr _ :: _ => exact am_Tl.no
theorem am_Tl.pst {st : List Value} {f : Nat → List Value → (R : Type) → am_Kt R → (Value → am_St → Option R) → Option R} {g : List Value → (R : Type) → am_Kt R → (Value → am_St → Option R) → Option R} (h : ∀ x r, am_Tl (f x r)) (h' : ∀ r, am_Tl (g r)) : am_Tl (fun R k fin => am_pst st (fun x r => f x r R k fin) (fun r => g r R k fin)) := by
  unfold am_pst
  split
  · exact h _ _
  · exact h' _
  · exact am_Tl.no
theorem am_Tl.p2i {st : List Value} {f : Int32 → Int32 → List Value → (R : Type) → am_Kt R → (Value → am_St → Option R) → Option R} (h : ∀ x y r, am_Tl (f x y r)) : am_Tl (fun R k fin => am_p2i st fun x y r => f x y r R k fin) := by
  unfold am_p2i
  split
  · exact h _ _ _
  · exact am_Tl.no
theorem am_Tl.p2l {st : List Value} {f : Int64 → Int64 → List Value → (R : Type) → am_Kt R → (Value → am_St → Option R) → Option R} (h : ∀ x y r, am_Tl (f x y r)) : am_Tl (fun R k fin => am_p2l st fun x y r => f x y r R k fin) := by
  unfold am_p2l
  split
  · exact h _ _ _
  · exact am_Tl.no
theorem am_Tl.p2r {st : List Value} {f : Nat → Nat → List Value → (R : Type) → am_Kt R → (Value → am_St → Option R) → Option R} (h : ∀ x y r, am_Tl (f x y r)) : am_Tl (fun R k fin => am_p2r st fun x y r => f x y r R k fin) := by
  unfold am_p2r
  split
  · exact h _ _ _
  · exact am_Tl.no
theorem am_Tl.pia {st : List Value} {f : Nat → Int32 → List Value → (R : Type) → am_Kt R → (Value → am_St → Option R) → Option R} (h : ∀ x y r, am_Tl (f x y r)) : am_Tl (fun R k fin => am_pia st fun x y r => f x y r R k fin) := by
  unfold am_pia
  split
  · exact h _ _ _
  · exact am_Tl.no
theorem am_Tl.p1 {st : List Value} {f : Value → List Value → (R : Type) → am_Kt R → (Value → am_St → Option R) → Option R} (h : ∀ x r, am_Tl (f x r)) : am_Tl (fun R k fin => am_p1 st fun x r => f x r R k fin) := by
  unfold am_p1
  split
  · exact am_Tl.if_ (h _ _)
  · exact am_Tl.no
theorem am_Tl.p2 {st : List Value} {f : Value → Value → List Value → (R : Type) → am_Kt R → (Value → am_St → Option R) → Option R} (h : ∀ x y r, am_Tl (f x y r)) : am_Tl (fun R k fin => am_p2 st fun x y r => f x y r R k fin) := by
  unfold am_p2
  split
  · exact am_Tl.if_ (h _ _ _)
  · exact am_Tl.no
theorem am_Tl.ldi {ls : List (Option Value)} {i : Nat} {f : Int32 → (R : Type) → am_Kt R → (Value → am_St → Option R) → Option R} (h : ∀ x, am_Tl (f x)) : am_Tl (fun R k fin => am_ldi ls i fun x => f x R k fin) := by
  unfold am_ldi
  split
  · exact h _
  · exact am_Tl.no
theorem am_Tl.ldl {ls : List (Option Value)} {i : Nat} {f : Int64 → (R : Type) → am_Kt R → (Value → am_St → Option R) → Option R} (h : ∀ x, am_Tl (f x)) : am_Tl (fun R k fin => am_ldl ls i fun x => f x R k fin) := by
  unfold am_ldl
  split
  · exact h _
  · exact am_Tl.no
theorem am_Tl.lda {ls : List (Option Value)} {i : Nat} {f : Nat → (R : Type) → am_Kt R → (Value → am_St → Option R) → Option R} (h : ∀ x, am_Tl (f x)) : am_Tl (fun R k fin => am_lda ls i fun x => f x R k fin) := by
  unfold am_lda
  split
  · exact h _
  · exact am_Tl.no
theorem am_Tl.tg {pc : Nat} {off : Int} {f : Nat → (R : Type) → am_Kt R → (Value → am_St → Option R) → Option R} (h : ∀ x, am_Tl (f x)) : am_Tl (fun R k fin => am_tg pc off fun x => f x R k fin) := by
  unfold am_tg
  split
  · exact h _
  · exact am_Tl.no
theorem am_Tl.bc {pc : Nat} {c : Jvm.ClassFile.Cond} {x y : Int32} {F' : (R : Type) → am_Kt R → (Value → am_St → Option R) → Option R} (h : am_Tl F) (h' : am_Tl F') : am_Tl (fun R k fin => am_bc pc c x y (F R k fin) (F' R k fin)) := by
  cases c <;> first | exact am_Tl.ite h h' | exact am_Tl.ite h' h
theorem am_Tl.sw {x : Int32} {f : Int → (R : Type) → am_Kt R → (Value → am_St → Option R) → Option R} (l : List (Int × Int)) (h : am_Tl F) (h' : ∀ o, am_Tl (f o)) : am_Tl (fun R k fin => am_sw x (F R k fin) (fun o => f o R k fin) l) := by
  induction l with
  | nil => exact h
  | cons q t ih => exact am_Tl.ite (h' q.2) ih
theorem am_Tl.cv {r : Option (Value × am_St)} {f : am_St → (R : Type) → am_Kt R → (Value → am_St → Option R) → Option R} (h : ∀ x, am_Tl (f x)) : am_Tl (fun R k fin => am_cv r fun x => f x R k fin) := by
  unfold am_cv
  split
  · exact h _
  · exact am_Tl.no
theorem am_Tl.ci {r : Option (Value × am_St)} {f : Int32 → am_St → (R : Type) → am_Kt R → (Value → am_St → Option R) → Option R} (h : ∀ y x, am_Tl (f y x)) : am_Tl (fun R k fin => am_ci r fun y x => f y x R k fin) := by
  unfold am_ci
  split
  · exact h _ _
  · exact am_Tl.no
theorem am_Tl.cl {r : Option (Value × am_St)} {f : Int64 → am_St → (R : Type) → am_Kt R → (Value → am_St → Option R) → Option R} (h : ∀ y x, am_Tl (f y x)) : am_Tl (fun R k fin => am_cl r fun y x => f y x R k fin) := by
  unfold am_cl
  split
  · exact h _ _
  · exact am_Tl.no
theorem am_Tl.cr {r : Option (Value × am_St)} {f : Nat → am_St → (R : Type) → am_Kt R → (Value → am_St → Option R) → Option R} (h : ∀ y x, am_Tl (f y x)) : am_Tl (fun R k fin => am_cr r fun y x => f y x R k fin) := by
  unfold am_cr
  split
  · exact h _ _
  · exact am_Tl.no
theorem am_Tl.ct {r : Option (Value × am_St)} {f g : am_St → (R : Type) → am_Kt R → (Value → am_St → Option R) → Option R} (h : ∀ x, am_Tl (f x)) (h' : ∀ x, am_Tl (g x)) : am_Tl (fun R k fin => am_ct r (fun x => f x R k fin) (fun x => g x R k fin)) := by
  unfold am_ct
  split
  · exact h _
  · exact h' _
  · exact am_Tl.no
theorem am_Tl.thr {P : am_Pt} {pc : Nat} {ls : List (Option Value)} {s : am_St} : am_Tl (fun _ k fin => am_thr P pc ls s k fin) := by
  unfold am_thr
  split
  · exact am_Tl.fin _ _
  · exact am_Tl.if_ (am_Tl.go _ _ _ _)
end TL
theorem am_Tl.spl {f : List Value → List Value → (R : Type) → am_Kt R → (Value → am_St → Option R) → Option R} (h : ∀ a r, am_Tl (f a r)) : ∀ (n : Nat) (st acc : List Value), am_Tl (fun R k fin => am_spl n st acc fun a r => f a r R k fin)
  | 0, st, acc => h acc st
  | n + 1, v :: t, acc => am_Tl.spl h n t (v :: acc)
  | n + 1, [], acc => am_Tl.no
theorem am_Tl.hdr {f : Nat → (R : Type) → am_Kt R → (Value → am_St → Option R) → Option R} (h : ∀ a, am_Tl (f a)) (l : List Value) : am_Tl (fun R k fin => am_hdr l fun a => f a R k fin) := by
  unfold am_hdr
  split
  · exact h _
  · exact am_Tl.no
theorem am_Tl.cm (G : am_Gt) (P : am_Pt) (rk : Nat) (f : am_MF) (pc : Nat) (ls : List (Option Value)) (a r : List Value) (s : am_St) : am_Tl (fun _ k fin => am_cm G P rk f pc ls a r s k fin) := by
  unfold am_cm
  split
  · exact am_Tl.cv fun _ => am_Tl.if_ (am_Tl.go _ _ _ _)
  · exact am_Tl.ci fun _ _ => am_Tl.if_ (am_Tl.go _ _ _ _)
  · exact am_Tl.cl fun _ _ => am_Tl.if_ (am_Tl.go _ _ _ _)
  · exact am_Tl.cr fun _ _ => am_Tl.if_ (am_Tl.if_ (am_Tl.go _ _ _ _))
  · exact am_Tl.ct (fun _ => am_Tl.if_ (am_Tl.go _ _ _ _)) (fun _ => am_Tl.if_ am_Tl.thr)
  · exact am_Tl.cr fun _ _ => am_Tl.if_ (am_Tl.hdr (fun _ => am_Tl.cond (am_Tl.go _ _ _ _) (am_Tl.if_ (am_Tl.go _ _ _ _))) _)
  · exact am_Tl.cr fun _ _ => am_Tl.if_ (am_Tl.if_ (am_Tl.go _ _ _ _))
  · exact am_Tl.no
theorem am_Tl.call (G : am_Gt) (P : am_Pt) (t ix pc : Nat) (ls : List (Option Value)) (st : List Value) (s : am_St) : am_Tl (fun _ k fin => am_call G P t ix pc ls st s k fin) := by
  unfold am_call
  split
  · exact am_Tl.no
  · refine am_Tl.if_ ?_
    split
    · exact am_Tl.spl (fun _ _ => am_Tl.if_ (am_Tl.cm _ _ _ _ _ _ _ _ _)) _ _ _
    · exact am_Tl.spl (fun _ _ => am_Tl.if_ (am_Tl.cm _ _ _ _ _ _ _ _ _)) _ _ _
    · exact am_Tl.spl (fun _ _ => am_Tl.if_ (am_Tl.cm _ _ _ _ _ _ _ _ _)) _ _ _
    · split
      · exact am_Tl.if_ (am_Tl.if_ (am_Tl.go _ _ _ _))
      · exact am_Tl.no
    · exact am_Tl.p1r fun _ _ => am_Tl.if_ (am_Tl.if_ (am_Tl.go _ _ _ _))
    · exact am_Tl.p1r fun _ _ => am_Tl.if_ (am_Tl.go _ _ _ _)
    · exact am_Tl.p2i fun _ _ _ => am_Tl.if_ (am_Tl.go _ _ _ _)
    · exact am_Tl.p1r fun _ _ => am_Tl.if_ (am_Tl.if_ (am_Tl.go _ _ _ _))
    · exact am_Tl.pia fun _ _ _ => am_Tl.if_ (am_Tl.if_ (am_Tl.if_ (am_Tl.go _ _ _ _)))
    · exact am_Tl.no
theorem am_Tl.get (G : am_Gt) (P : am_Pt) (ix pc : Nat) (ls : List (Option Value)) (st : List Value) (s : am_St) : am_Tl (fun _ k _ => am_get G P ix pc ls st s k) := by
  unfold am_get
  split
  · exact am_Tl.no
  · refine am_Tl.p1r fun _ _ => am_Tl.cond (am_Tl.if_ (am_Tl.go _ _ _ _)) (am_Tl.if_ ?_)
    split
    · exact am_Tl.go _ _ _ _
    · exact am_Tl.go _ _ _ _
    · exact am_Tl.cond (am_Tl.if_ (am_Tl.go _ _ _ _)) (am_Tl.if_ (am_Tl.if_ (am_Tl.go _ _ _ _)))
    · exact am_Tl.go _ _ _ _
    · exact am_Tl.no
theorem am_Tl.put (G : am_Gt) (P : am_Pt) (ix pc : Nat) (ls : List (Option Value)) (st : List Value) (s : am_St) : am_Tl (fun _ k _ => am_put G P ix pc ls st s k) := by
  unfold am_put
  split
  · exact am_Tl.no
  · split
    · refine am_Tl.if_ ?_
      split
      · exact am_Tl.go _ _ _ _
      · exact am_Tl.if_ (am_Tl.go _ _ _ _)
      · exact am_Tl.no
    · refine am_Tl.if_ ?_
      split
      · exact am_Tl.cond (am_Tl.if_ (am_Tl.go _ _ _ _)) (am_Tl.if_ (am_Tl.go _ _ _ _))
      · exact am_Tl.cond (am_Tl.if_ (am_Tl.go _ _ _ _)) (am_Tl.if_ (am_Tl.if_ (am_Tl.go _ _ _ _)))
      · exact am_Tl.no
    · exact am_Tl.no
theorem am_kf_eq {α : Type} (a : Option Value) (f : Option Value → α) : am_kf a f = f (am_kf a id) := by
  unfold am_kf
  split <;> rfl
theorem am_s1c_eq {α : Type} : ∀ (ls : List (Option Value)) (i : Nat) (v : Value) (f : List (Option Value) → α), am_s1c ls i v f = f (am_s1 ls i v)
  | [], 0, v, f => rfl
  | [], i + 1, v, f => by
    cases i <;> rfl
  | a :: t, 0, v, f => rfl
  | a :: t, 1, v, f => by
    show am_kf a (fun a' => am_s1c t 0 v fun t' => f (a' :: t')) = _
    rw [am_kf_eq]
    rw [am_s1c_eq t 0 v]
    congr 1
    match a with
    | none | some (.int _) | some (.long _) | some (.float _) | some (.double _) | some .null | some (.ref _) | some (.retAddr _) => rfl
  | a :: t, i + 2, v, f => by
    show am_s1c t (i + 1) v (fun t' => f (a :: t')) = _
    rw [am_s1c_eq t (i + 1) v]
    congr 1
    show _ = am_set (am_kill (a :: t) (i + 1)) (i + 2) (some v)
    have e : am_kill (a :: t) (i + 1) = a :: am_kill t i := by
      simp only [am_kill, am_nth, am_set]
      split <;> rfl
    rw [e]
    rfl
theorem am_s2c_eq {α : Type} : ∀ (ls : List (Option Value)) (i : Nat) (v : Value) (f : List (Option Value) → α), am_s2c ls i v f = f (am_s2 ls i v)
  | [], 0, v, f => rfl
  | [], i + 1, v, f => by
    cases i <;> rfl
  | [a], 0, v, f => rfl
  | a :: b :: t, 0, v, f => rfl
  | a :: t, 1, v, f => by
    have e0 : am_s2c (a :: t) 1 v f = am_kf a (fun a' => am_s2c t 0 v fun t' => f (a' :: t')) := by
      cases t <;> rfl
    rw [e0, am_kf_eq, am_s2c_eq t 0 v]
    congr 1
    match a with
    | none | some (.int _) | some (.long _) | some (.float _) | some (.double _) | some .null | some (.ref _) | some (.retAddr _) => rfl
  | a :: t, i + 2, v, f => by
    have e0 : am_s2c (a :: t) (i + 2) v f = am_s2c t (i + 1) v (fun t' => f (a :: t')) := by
      cases t <;> rfl
    rw [e0, am_s2c_eq t (i + 1) v]
    congr 1
    show _ = am_set (am_set (am_kill (a :: t) (i + 1)) (i + 3) none) (i + 2) (some v)
    have e : am_kill (a :: t) (i + 1) = a :: am_kill t i := by
      simp only [am_kill, am_nth, am_set]
      split <;> rfl
    rw [e]
    rfl
theorem am_mskc_eq {α : Type} : ∀ (m : List Bool) (l : List (Option Value)) (f : List (Option Value) → α), am_mskc m l f = f (am_msk m l)
  | [], l, f => by cases l <;> rfl
  | true :: m, [], f => rfl
  | false :: m, [], f => rfl
  | true :: m, v :: l, f => am_mskc_eq m l _
  | false :: m, v :: l, f => am_mskc_eq m l _
theorem am_mqc_eq {α : Type} (K : List (List (Nat × List Bool))) (pc : Nat) (l : List (Option Value)) (f : List (Option Value) → α) : am_mqc K pc l f = f (am_mq K pc l) := by
  unfold am_mqc am_mq
  split
  · exact am_mskc_eq _ _ _
  · rfl
theorem am_Tl.mask {F : (R : Type) → am_Kt R → (Value → am_St → Option R) → Option R} (h : am_Tl F) (K : List (List (Nat × List Bool))) : am_Tl (fun R k fin => F R (fun q l st s => am_mqc K q l fun l' => k q l' st s) fin) := by
  rcases h with e | ⟨a, b, c, d, e⟩ | ⟨v, t, e⟩
  · exact Or.inl fun R k fin => e R _ fin
  · exact Or.inr (Or.inl ⟨a, am_mq K a b, c, d, fun R k fin => (e R _ fin).trans (am_mqc_eq K a b fun l' => k a l' c d)⟩)
  · exact Or.inr (Or.inr ⟨v, t, fun R k fin => e R _ fin⟩)
theorem am_Tl.s1 {ls : List (Option Value)} {i : Nat} {v : Value} {pc : Nat} {r : List Value} {s : am_St} : am_Tl (fun _ k _ => am_s1c ls i v fun l => k pc l r s) := Or.inr (Or.inl ⟨pc, am_s1 ls i v, r, s, fun _ k _ => am_s1c_eq ls i v fun l => k pc l r s⟩)
theorem am_Tl.s2 {ls : List (Option Value)} {i : Nat} {v : Value} {pc : Nat} {r : List Value} {s : am_St} : am_Tl (fun _ k _ => am_s2c ls i v fun l => k pc l r s) := Or.inr (Or.inl ⟨pc, am_s2 ls i v, r, s, fun _ k _ => am_s2c_eq ls i v fun l => k pc l r s⟩)
set_option maxHeartbeats 4000000 in
theorem am_Tl.ins (G : am_Gt) (P : am_Pt) (i : Instr) (cst : Int32) (len pc : Nat) (ls : List (Option Value)) (st : List Value) (s : am_St) : am_Tl (fun _ k fin => am_ins G P i cst len pc ls st s k fin) := by
  cases i
  case ldc ix =>
    refine am_Tl.ln ?_
    split
    · exact am_Tl.go _ _ _ _
    · exact am_Tl.no
  case getstatic ix =>
    refine am_Tl.ln ?_
    split
    · exact am_Tl.go _ _ _ _
    · exact am_Tl.no
  case ldc2_w ix =>
    refine am_Tl.ln ?_
    split
    · exact am_Tl.go _ _ _ _
    · exact am_Tl.no
  case goto off => exact am_Tl.ln (am_Tl.tg fun _ => am_Tl.go _ _ _ _)
  case ifCond c off => exact am_Tl.ln (am_Tl.p1i fun _ _ => am_Tl.tg fun _ => am_Tl.bc (am_Tl.go _ _ _ _) (am_Tl.go _ _ _ _))
  case if_icmp c off => exact am_Tl.ln (am_Tl.p2i fun _ _ _ => am_Tl.tg fun _ => am_Tl.bc (am_Tl.go _ _ _ _) (am_Tl.go _ _ _ _))
  case if_acmp c off =>
    refine am_Tl.ln (am_Tl.p2r fun _ _ _ => am_Tl.if_ (am_Tl.tg fun _ => ?_))
    cases c <;> exact am_Tl.ite (am_Tl.go _ _ _ _) (am_Tl.go _ _ _ _)
  case tableswitch d lo hi offs => exact am_Tl.p1i fun _ _ => am_Tl.if_ (am_Tl.sw _ (am_Tl.tg fun _ => am_Tl.go _ _ _ _) fun _ => am_Tl.tg fun _ => am_Tl.go _ _ _ _)
  case lookupswitch d ps => exact am_Tl.p1i fun _ _ => am_Tl.if_ (am_Tl.sw _ (am_Tl.tg fun _ => am_Tl.go _ _ _ _) fun _ => am_Tl.tg fun _ => am_Tl.go _ _ _ _)
  case getfield ix => exact am_Tl.ln (am_Tl.get _ _ _ _ _ _ _)
  case putfield ix => exact am_Tl.ln (am_Tl.put _ _ _ _ _ _ _)
  case invokestatic ix => exact am_Tl.ln (am_Tl.call _ _ _ _ _ _ _ _)
  case invokevirtual ix => exact am_Tl.ln (am_Tl.call _ _ _ _ _ _ _ _)
  case invokespecial ix => exact am_Tl.ln (am_Tl.call _ _ _ _ _ _ _ _)
  case bastore =>
    refine am_Tl.ln (am_Tl.p1i fun _ _ => am_Tl.pia fun _ _ _ => am_Tl.if_ ?_)
    split
    · exact am_Tl.if_ (am_Tl.go _ _ _ _)
    · exact am_Tl.if_ (am_Tl.go _ _ _ _)
    · exact am_Tl.no
  case newarray t =>
    refine am_Tl.ln (am_Tl.p1i fun _ _ => ?_)
    cases t <;> first | exact am_Tl.no | exact am_Tl.if_ (am_Tl.go _ _ _ _)
  case anewarray ix =>
    refine am_Tl.ln (am_Tl.p1i fun _ _ => ?_)
    split
    · exact am_Tl.if_ (am_Tl.go _ _ _ _)
    · exact am_Tl.no
  case aastore => exact am_Tl.ln (am_Tl.p1r fun _ _ => am_Tl.pia fun _ _ _ => am_Tl.if_ (am_Tl.if_ (am_Tl.go _ _ _ _)))
  case new ix =>
    refine am_Tl.ln ?_
    split
    · exact am_Tl.if_ (am_Tl.go _ _ _ _)
    · exact am_Tl.no
  case irem => exact am_Tl.ln (am_Tl.p2i fun _ _ _ => am_Tl.ite am_Tl.no (am_Tl.go _ _ _ _))
  case ldiv => exact am_Tl.ln (am_Tl.p2l fun _ _ _ => am_Tl.ite am_Tl.no (am_Tl.go _ _ _ _))
  case lrem => exact am_Tl.ln (am_Tl.p2l fun _ _ _ => am_Tl.ite am_Tl.no (am_Tl.go _ _ _ _))
  case iload_n n => exact am_Tl.ln (am_Tl.ldi fun _ => am_Tl.go _ _ _ _)
  case iload n => exact am_Tl.ln (am_Tl.ldi fun _ => am_Tl.go _ _ _ _)
  case lload_n n => exact am_Tl.ln (am_Tl.ldl fun _ => am_Tl.go _ _ _ _)
  case lload n => exact am_Tl.ln (am_Tl.ldl fun _ => am_Tl.go _ _ _ _)
  case aload_n n => exact am_Tl.ln (am_Tl.lda fun _ => am_Tl.go _ _ _ _)
  case aload n => exact am_Tl.ln (am_Tl.lda fun _ => am_Tl.go _ _ _ _)
  case istore_n n => exact am_Tl.ln (am_Tl.if_ (am_Tl.p1i fun _ _ => am_Tl.s1))
  case istore n => exact am_Tl.ln (am_Tl.if_ (am_Tl.p1i fun _ _ => am_Tl.s1))
  case lstore_n n => exact am_Tl.ln (am_Tl.if_ (am_Tl.p1l fun _ _ => am_Tl.s2))
  case lstore n => exact am_Tl.ln (am_Tl.if_ (am_Tl.p1l fun _ _ => am_Tl.s2))
  case astore_n n => exact am_Tl.ln (am_Tl.if_ (am_Tl.pst (fun _ _ => am_Tl.s1) (fun _ => am_Tl.go _ _ _ _)))
  case astore n => exact am_Tl.ln (am_Tl.if_ (am_Tl.pst (fun _ _ => am_Tl.s1) (fun _ => am_Tl.go _ _ _ _)))
  case iinc n v => exact am_Tl.ln (am_Tl.if_ (am_Tl.ldi fun _ => am_Tl.s1))
  case arraylength => exact am_Tl.ln (am_Tl.p1r fun _ _ => am_Tl.if_ (am_Tl.if_ (am_Tl.go _ _ _ _)))
  case iaload => exact am_Tl.ln (am_Tl.pia fun _ _ _ => am_Tl.if_ (am_Tl.if_ (am_Tl.go _ _ _ _)))
  case baload => exact am_Tl.ln (am_Tl.pia fun _ _ _ => am_Tl.if_ (am_Tl.if_ (am_Tl.go _ _ _ _)))
  case laload => exact am_Tl.ln (am_Tl.pia fun _ _ _ => am_Tl.if_ (am_Tl.if_ (am_Tl.go _ _ _ _)))
  case aaload => exact am_Tl.ln (am_Tl.pia fun _ _ _ => am_Tl.if_ (am_Tl.if_ (am_Tl.if_ (am_Tl.go _ _ _ _))))
  case iastore => exact am_Tl.ln (am_Tl.p1i fun _ _ => am_Tl.pia fun _ _ _ => am_Tl.if_ (am_Tl.if_ (am_Tl.go _ _ _ _)))
  case lastore => exact am_Tl.ln (am_Tl.p1l fun _ _ => am_Tl.pia fun _ _ _ => am_Tl.if_ (am_Tl.if_ (am_Tl.go _ _ _ _)))
  case ireturn => exact am_Tl.ln (am_Tl.p1i fun _ _ => am_Tl.if_ (am_Tl.if_ (am_Tl.fin _ _)))
  case lreturn => exact am_Tl.ln (am_Tl.p1l fun _ _ => am_Tl.if_ (am_Tl.fin _ _))
  case areturn => exact am_Tl.ln (am_Tl.p1r fun _ _ => am_Tl.if_ (am_Tl.if_ (am_Tl.fin _ _)))
  case return_ => exact am_Tl.ln (am_Tl.if_ (am_Tl.fin _ _))
  all_goals first
    | exact am_Tl.no
    | exact am_Tl.ln (am_Tl.go _ _ _ _)
    | exact am_Tl.ln (am_Tl.p1i fun _ _ => am_Tl.go _ _ _ _)
    | exact am_Tl.ln (am_Tl.p2i fun _ _ _ => am_Tl.go _ _ _ _)
    | exact am_Tl.ln (am_Tl.p1l fun _ _ => am_Tl.go _ _ _ _)
    | exact am_Tl.ln (am_Tl.p2l fun _ _ _ => am_Tl.go _ _ _ _)
    | exact am_Tl.ln (am_Tl.p1 fun _ _ => am_Tl.go _ _ _ _)
    | exact am_Tl.ln (am_Tl.p2 fun _ _ _ => am_Tl.go _ _ _ _)
theorem am_Tl.step (G : am_Gt) (P : am_Pt) (pc : Nat) (ls : List (Option Value)) (st : List Value) (s : am_St) : am_Tl (fun _ k fin => am_step G P pc ls st s k fin) := by
  unfold am_step
  split
  · exact am_Tl.mask (am_Tl.ins _ _ _ _ _ _ _ _ _) _
  · exact am_Tl.no
theorem am_step_tl (G : am_Gt) (P : am_Pt) (pc : Nat) (ls : List (Option Value)) (st : List Value) (s : am_St) : (∀ (R : Type) (k : am_Kt R) (fin : Value → am_St → Option R), am_step G P pc ls st s k fin = none) ∨ (∃ a b c d, ∀ (R : Type) (k : am_Kt R) (fin : Value → am_St → Option R), am_step G P pc ls st s k fin = k a b c d) ∨ (∃ v t, ∀ (R : Type) (k : am_Kt R) (fin : Value → am_St → Option R), am_step G P pc ls st s k fin = fin v t) := am_Tl.step G P pc ls st s
theorem am_run_mono (G : am_Gt) (P : am_Pt) : ∀ (n : Nat) (pc : Nat) (ls : List (Option Value)) (st : List Value) (s : am_St) (r : Value × am_St), am_run G P n pc ls st s = some r → ∀ k, n ≤ k → am_run G P k pc ls st s = some r := by
  intro n
  induction n with
  | zero => intro pc ls st s r h; cases h
  | succ n ih =>
    intro pc ls st s r h k hk
    obtain ⟨j, rfl⟩ : ∃ j, k = j + 1 := ⟨k - 1, by omega⟩
    have h0 : am_step G P pc ls st s (am_run G P n) (fun v t => some (v, t)) = some r := h
    show am_step G P pc ls st s (am_run G P j) (fun v t => some (v, t)) = some r
    rcases am_step_tl G P pc ls st s with e | ⟨a, b, c, d, e⟩ | ⟨v, t, e⟩
    · rw [e] at h0; cases h0
    · rw [e] at h0 ⊢; exact ih _ _ _ _ _ h0 _ (by omega)
    · rw [e] at h0 ⊢; exact h0

noncomputable def am_M (G : am_Gt) (P : am_Pt) : am_Kt (Value × am_St) := fun pc ls st s =>
  @dite _ (∃ n r, am_run G P n pc ls st s = some r) (Classical.propDecidable _) (fun h => some (Classical.choose (Classical.choose_spec h))) (fun _ => none)
theorem am_M_of {G : am_Gt} {P : am_Pt} {n pc : Nat} {ls : List (Option Value)} {st : List Value} {s : am_St} {r : Value × am_St} (h : am_run G P n pc ls st s = some r) : am_M G P pc ls st s = some r := by
  have hx : ∃ n r, am_run G P n pc ls st s = some r := ⟨n, r, h⟩
  unfold am_M
  rw [dif_pos hx]
  have h2 := Classical.choose_spec (Classical.choose_spec hx)
  have h3 := am_run_mono G P _ _ _ _ _ _ h2 (max n (Classical.choose hx)) (Nat.le_max_right _ _)
  have h4 := am_run_mono G P _ _ _ _ _ _ h (max n (Classical.choose hx)) (Nat.le_max_left _ _)
  rw [h3] at h4
  exact h4
theorem am_M_run {G : am_Gt} {P : am_Pt} {pc : Nat} {ls : List (Option Value)} {st : List Value} {s : am_St} {r : Value × am_St} (h : am_M G P pc ls st s = some r) : ∃ n, am_run G P n pc ls st s = some r := by
  unfold am_M at h
  split at h
  next hx =>
    cases h
    exact ⟨_, Classical.choose_spec (Classical.choose_spec hx)⟩
  next => cases h
/-- a run is its first step and a run from there -/
theorem am_M_step (G : am_Gt) (P : am_Pt) (pc : Nat) (ls : List (Option Value)) (st : List Value) (s : am_St) : am_M G P pc ls st s = am_step G P pc ls st s (am_M G P) (fun v t => some (v, t)) := by
  rcases am_step_tl G P pc ls st s with e | ⟨a, b, c, d, e⟩ | ⟨v, t, e⟩
  · rw [e]
    cases h : am_M G P pc ls st s with
    | none => rfl
    | some r =>
      obtain ⟨n, hn⟩ := am_M_run h
      cases n with
      | zero => cases hn
      | succ n =>
        have h0 : am_step G P pc ls st s (am_run G P n) (fun v t => some (v, t)) = some r := hn
        rw [e] at h0
        cases h0
  · rw [e]
    cases h : am_M G P a b c d with
    | some r =>
      obtain ⟨n, hn⟩ := am_M_run h
      refine am_M_of (n := n + 1) ?_
      show am_step G P pc ls st s (am_run G P n) (fun v t => some (v, t)) = some r
      rw [e]
      exact hn
    | none =>
      cases h2 : am_M G P pc ls st s with
      | none => rfl
      | some r =>
        obtain ⟨n, hn⟩ := am_M_run h2
        cases n with
        | zero => cases hn
        | succ n =>
          have h0 : am_step G P pc ls st s (am_run G P n) (fun v t => some (v, t)) = some r := hn
          rw [e] at h0
          rw [am_M_of h0] at h
          cases h
  · rw [e]
    refine am_M_of (n := 1) ?_
    show am_step G P pc ls st s (am_run G P 0) (fun v t => some (v, t)) = some (v, t)
    rw [e]
/-- a run by the steps up to the next place where one stops -/
def am_go (G : am_Gt) (P : am_Pt) (stop : List (List (Nat × List Bool))) : Nat → am_Kt (Value × am_St) → am_Kt (Value × am_St) := fun n M => Nat.rec M (fun _ ih => fun pc ls st s => cond (am_sp stop pc) (M pc ls st s) (am_step G P pc ls st s ih (fun v t => some (v, t)))) n
theorem am_go_eq (G : am_Gt) (P : am_Pt) (stop : List (List (Nat × List Bool))) (n : Nat) : am_go G P stop n (am_M G P) = am_M G P := by
  induction n with
  | zero => rfl
  | succ n ih =>
    funext pc ls st s
    show cond (am_sp stop pc) (am_M G P pc ls st s) (am_step G P pc ls st s (am_go G P stop n (am_M G P)) (fun v t => some (v, t))) = _
    rw [ih]
    cases am_sp stop pc
    · exact (am_M_step G P pc ls st s).symm
    · rfl
theorem am_fe {G : am_Gt} {P : am_Pt} {L : Nat} {args : List Value} {s : am_St} {ls : List (Option Value)} {r : Option (Value × am_St)} (h : am_pad L (am_ent args) = ls) (h2 : am_M G P 0 ls [] s = r) : am_M G P 0 (am_pad L (am_ent args)) [] s = r := by
  rw [h]
  exact h2
/-- the equation of a run from a place, up to the places where one stops -/
theorem am_eq {G : am_Gt} {P : am_Pt} (stop : List (List (Nat × List Bool))) (n : Nat) {pc : Nat} {ls : List (Option Value)} {st : List Value} {s : am_St} {r : Option (Value × am_St)} (h : am_step G P pc ls st s (am_go G P stop n (am_M G P)) (fun v t => some (v, t)) = r) : am_M G P pc ls st s = r := by
  rw [am_go_eq] at h
  rw [am_M_step]
  exact h
