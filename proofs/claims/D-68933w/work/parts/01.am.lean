/-! THE ABSTRACT MACHINE: a small state, an instruction's step on it, a method as a run -/
set_option maxRecDepth 100000
/-- int fields, ref fields, lengths of arrays, contents (ints, longs, refs), which objects are there, how often a place got a new array, cells and slots made so far -/
abbrev am_St : Type := (Nat → Nat → Int32) × (Nat → Nat → Nat) × (Nat → Nat) × (Nat → Nat → Int32) × (Nat → Nat → Int64) × (Nat → Nat → Nat) × (Nat → Bool) × (Nat → Nat) × Nat × Nat
def am_fi (s : am_St) : Nat → Nat → Int32 := s.1
def am_fr (s : am_St) : Nat → Nat → Nat := s.2.1
def am_al (s : am_St) : Nat → Nat := s.2.2.1
def am_ai (s : am_St) : Nat → Nat → Int32 := s.2.2.2.1
def am_aL (s : am_St) : Nat → Nat → Int64 := s.2.2.2.2.1
def am_ar (s : am_St) : Nat → Nat → Nat := s.2.2.2.2.2.1
def am_ob (s : am_St) : Nat → Bool := s.2.2.2.2.2.2.1
def am_mv (s : am_St) : Nat → Nat := s.2.2.2.2.2.2.2.1
def am_gc (s : am_St) : Nat := s.2.2.2.2.2.2.2.2.1
def am_gs (s : am_St) : Nat := s.2.2.2.2.2.2.2.2.2
def am_u2 {α : Type} (f : Nat → Nat → α) (o k : Nat) (v : α) : Nat → Nat → α := fun a b => cond (Nat.beq a o && Nat.beq b k) v (f a b)
def am_u1 {α : Type} (f : Nat → α) (o : Nat) (v : α) : Nat → α := fun a => cond (Nat.beq a o) v (f a)
def am_sI (s : am_St) (o k : Nat) (v : Int32) : am_St := (am_u2 (am_fi s) o k v, am_fr s, am_al s, am_ai s, am_aL s, am_ar s, am_ob s, am_mv s, am_gc s, am_gs s)
def am_sR (s : am_St) (o k : Nat) (v : Nat) : am_St := (am_fi s, am_u2 (am_fr s) o k v, am_al s, am_ai s, am_aL s, am_ar s, am_ob s, am_mv s, am_gc s, am_gs s)
def am_sA (s : am_St) (a : Nat) (f : Nat → Int32) : am_St := (am_fi s, am_fr s, am_al s, am_u1 (am_ai s) a f, am_aL s, am_ar s, am_ob s, am_mv s, am_gc s, am_gs s)
def am_sL (s : am_St) (a : Nat) (f : Nat → Int64) : am_St := (am_fi s, am_fr s, am_al s, am_ai s, am_u1 (am_aL s) a f, am_ar s, am_ob s, am_mv s, am_gc s, am_gs s)
def am_sQ (s : am_St) (a : Nat) (f : Nat → Nat) : am_St := (am_fi s, am_fr s, am_al s, am_ai s, am_aL s, am_u1 (am_ar s) a f, am_ob s, am_mv s, am_gc s, am_gs s)
/-- a new array of n places at the place t, all zero -/
def am_nA (s : am_St) (t n : Nat) : am_St := (am_fi s, am_fr s, am_u1 (am_al s) t n, am_u1 (am_ai s) t (fun _ => 0), am_u1 (am_aL s) t (fun _ => 0), am_u1 (am_ar s) t (fun _ => 0), am_ob s, am_u1 (am_mv s) t (am_mv s t + 1), am_gc s + 1, am_gs s + n)
/-- the array at t comes to the place a -/
def am_mA (s : am_St) (a t : Nat) : am_St := (am_fi s, am_fr s, am_u1 (am_u1 (am_al s) a (am_al s t)) t 0, am_u1 (am_ai s) a (am_ai s t), am_u1 (am_aL s) a (am_aL s t), am_u1 (am_ar s) a (am_ar s t), am_ob s, am_u1 (am_u1 (am_mv s) a (am_mv s a + 1)) t (am_mv s t + 1), am_gc s, am_gs s)
/-- a new object o of n fields, all zero -/
def am_nO (s : am_St) (o n : Nat) : am_St := (fun a b => cond (Nat.beq a o) 0 (am_fi s a b), fun a b => cond (Nat.beq a o) 0 (am_fr s a b), am_al s, am_ai s, am_aL s, am_ar s, am_u1 (am_ob s) o true, am_mv s, am_gc s + 1, am_gs s + n)
def am_A (o k : Nat) : Nat := 64 * o + k
def am_isA (x : Nat) : Bool := Nat.ble 64 x && Nat.ble x 4999
/-- the place of a new array of sort e before it is stored -/
def am_T (e : Nat) : Nat := am_A 70 e
def am_nth {α : Type} : List α → Nat → Option α
  | [], _ => none
  | a :: _, 0 => some a
  | _ :: t, n + 1 => am_nth t n
def am_set {α : Type} : List α → Nat → α → List α
  | [], _, _ => []
  | _ :: t, 0, b => b :: t
  | a :: t, n + 1, b => a :: am_set t n b
def am_kill (ls : List (Option Value)) (i : Nat) : List (Option Value) := match am_nth ls i with
  | some (some (.long _)) => am_set ls i none
  | some (some (.double _)) => am_set ls i none
  | _ => ls
def am_pre (ls : List (Option Value)) (i : Nat) : List (Option Value) := match i with
  | 0 => ls
  | j + 1 => am_kill ls j
def am_s1 (ls : List (Option Value)) (i : Nat) (v : Value) : List (Option Value) := am_set (am_pre ls i) i (some v)
def am_s2 (ls : List (Option Value)) (i : Nat) (v : Value) : List (Option Value) := am_set (am_set (am_pre ls i) (i + 1) none) i (some v)
/-- the same, handed on as a list in full (nothing is left to be worked out twice) -/
def am_kf {α : Type} (a : Option Value) (f : Option Value → α) : α := match a with
  | some (.long _) => f none
  | some (.double _) => f none
  | a => f a
def am_s1c {α : Type} : List (Option Value) → Nat → Value → (List (Option Value) → α) → α
  | [], _, _, f => f []
  | _ :: t, 0, v, f => f (some v :: t)
  | a :: t, 1, v, f => am_kf a fun a' => am_s1c t 0 v fun t' => f (a' :: t')
  | a :: t, i + 2, v, f => am_s1c t (i + 1) v fun t' => f (a :: t')
def am_s2c {α : Type} : List (Option Value) → Nat → Value → (List (Option Value) → α) → α
  | [], _, _, f => f []
  | [_], 0, v, f => f [some v]
  | _ :: _ :: t, 0, v, f => f (some v :: none :: t)
  | a :: t, 1, v, f => am_kf a fun a' => am_s2c t 0 v fun t' => f (a' :: t')
  | a :: t, i + 2, v, f => am_s2c t (i + 1) v fun t' => f (a :: t')
/-- a method's locals at its start -/
def am_ent : List Value → List (Option Value)
  | [] => []
  | v :: t => cond (Nat.beq v.category 2) (some v :: none :: am_ent t) (some v :: am_ent t)
def am_pad (n : Nat) (l : List (Option Value)) : List (Option Value) := l ++ List.replicate (n - l.length) none
abbrev am_MF : Type := List Value → am_St → Option (Value × am_St)
/-- the world: an object's class, a field's type, an array's sort, whether an array stays where it is, a field's object where it is always the same one; a text's letters -/
abbrev am_Gt : Type := (Nat → Nat) × (Nat → Nat → FieldType) × (Nat → Nat) × (Nat → Bool) × (Nat → Nat → Nat) × (Nat → List Int32)
def am_kl (G : am_Gt) := G.1
def am_ty (G : am_Gt) := G.2.1
def am_et (G : am_Gt) := G.2.2.1
def am_fx (G : am_Gt) := G.2.2.2.1
def am_so (G : am_Gt) := G.2.2.2.2.1
def am_tx (G : am_Gt) := G.2.2.2.2.2
/-- a method: its code; by pool index: fields read, fields written, calls, objects made, constants, longs; its handler; whether its answer is a boolean; by place, which locals are kept there -/
abbrev am_Pt : Type := (List (List (Nat × Instr × Nat × Int32))) × (Nat → Option (Nat × Nat)) × (Nat → Option (Nat × Nat)) × (Nat → Option (Nat × Nat × Nat × Nat × am_MF)) × (Nat → Option (Nat × Nat)) × (Nat → Option Nat) × (Nat → Option Int64) × Option (Nat × Nat × Nat) × Bool × (List (List (Nat × List Bool)))
def am_code (P : am_Pt) := P.1
def am_fF (P : am_Pt) := P.2.1
def am_fW (P : am_Pt) := P.2.2.1
def am_fC (P : am_Pt) := P.2.2.2.1
def am_fN (P : am_Pt) := P.2.2.2.2.1
def am_fS (P : am_Pt) := P.2.2.2.2.2.1
def am_fL (P : am_Pt) := P.2.2.2.2.2.2.1
def am_hd (P : am_Pt) := P.2.2.2.2.2.2.2.1
def am_rz (P : am_Pt) := P.2.2.2.2.2.2.2.2.1
def am_mk (P : am_Pt) := P.2.2.2.2.2.2.2.2.2
/-- what is dead at a place is dropped -/
def am_msk : List Bool → List (Option Value) → List (Option Value)
  | [], l => l
  | _ :: _, [] => []
  | b :: m, v :: l => cond b v none :: am_msk m l
def am_l1 {α : Type} : List (Nat × α) → Nat → Option α
  | [], _ => none
  | (q, i) :: t, pc => cond (Nat.beq q pc) (some i) (am_l1 t pc)
/-- a table by sixteens -/
def am_lk {α : Type} (K : List (List (Nat × α))) (pc : Nat) : Option α := match am_nth K (pc / 16) with
  | some l => am_l1 l pc
  | none => none
def am_mskc {α : Type} : List Bool → List (Option Value) → (List (Option Value) → α) → α
  | [], l, f => f l
  | _ :: _, [], f => f []
  | true :: m, v :: l, f => am_mskc m l fun l' => f (v :: l')
  | false :: m, _ :: l, f => am_mskc m l fun l' => f (none :: l')
def am_mqc {α : Type} (K : List (List (Nat × List Bool))) (pc : Nat) (l : List (Option Value)) (f : List (Option Value) → α) : α := match am_lk K pc with
  | some m => am_mskc m l f
  | none => f l
def am_mq (K : List (List (Nat × List Bool))) (pc : Nat) (l : List (Option Value)) : List (Option Value) := match am_lk K pc with
  | some m => am_msk m l
  | none => l
def am_sp (K : List (List (Nat × List Bool))) (pc : Nat) : Bool := match am_lk K pc with
  | some _ => true
  | none => false
/-- field sorts: int, boolean, object, array -/
def am_fk : FieldType → Nat
  | .int => 0
  | .boolean => 1
  | .object _ => 2
  | .array _ => 3
  | _ => 9
def am_ck (i : Instr) (c : Int32) : Bool := match i with
  | .iconst n => decide (Int32.ofInt n = c)
  | .bipush n => decide ((Int8.ofInt n).toInt32 = c)
  | .sipush n => decide ((Int16.ofInt n).toInt32 = c)
  | .iinc _ n => decide (Int32.ofInt n = c)
  | _ => true
def am_bz (x : Int32) : Bool := decide (x = 0) || decide (x = 1)
def am_inB (i : Int32) (n : Nat) : Bool := !(decide (i < 0)) && Nat.blt i.toNatClampNeg n
def am_cpg (sp dp n : Int32) (l0 l1 : Nat) : Bool := !(decide (sp < 0)) && (!(decide (dp < 0)) && (!(decide (n < 0)) && (Nat.ble (sp.toNatClampNeg + n.toNatClampNeg) l0 && (Nat.ble (dp.toNatClampNeg + n.toNatClampNeg) l1 && (Nat.blt 0 l0 && Nat.blt 0 l1)))))
def am_nAg (n : Int32) (l : Nat) : Bool := !(decide (n < 0)) && (Nat.blt 0 n.toNatClampNeg && (Nat.ble n.toNatClampNeg 1000000 && Nat.beq l 0))
def am_em : List Value → Bool
  | [] => true
  | _ :: _ => false
def am_cats (st : List Value) : Nat := (st.map fun v => v.category).sum
def am_nr (a t : Nat) : List Value → Bool
  | [] => true
  | .ref x :: r => (!(Nat.beq x a) && !(Nat.beq x t)) && am_nr a t r
  | _ :: r => am_nr a t r
def am_drop (a t : Nat) : List (Option Value) → List (Option Value)
  | [] => []
  | some (.ref x) :: r => cond (Nat.beq x a || Nat.beq x t) none (some (.ref x)) :: am_drop a t r
  | v :: r => v :: am_drop a t r
/-- behind a call the caller's arrays lie where they lay -/
def am_gv (G : am_Gt) (s s' : am_St) : List Value → Bool
  | [] => true
  | .ref x :: r => (!(am_isA x) || (am_fx G x || Nat.beq (am_mv s' x) (am_mv s x))) && am_gv G s s' r
  | _ :: r => am_gv G s s' r
def am_gl (G : am_Gt) (s s' : am_St) : List (Option Value) → Bool
  | [] => true
  | some (.ref x) :: r => (!(am_isA x) || (am_fx G x || Nat.beq (am_mv s' x) (am_mv s x))) && am_gl G s s' r
  | _ :: r => am_gl G s s' r
/-- small whole numbers as written -/
def am_lits : List Int32 := [0, 1, 2, 3, 4, 5, 6, 7, 8, 9, 10, 11, 12, 13, 14, 15, 16, 17, 18, 19, 20, 21, 22, 23, 24, 25, 26, 27, 28, 29, 30, 31, 32, 33, 34, 35, 36, 37, 38, 39, 40]
def am_ic (n : Int) : Int32 := match n with
  | .ofNat k => (match am_nth am_lits k with | some x => x | none => Int32.ofInt n)
  | .negSucc _ => Int32.ofInt n
section AMI
variable {R : Type}
def am_ln (a b : Nat) (r : Option R) : Option R := cond (Nat.beq a b) r none
def am_if (b : Bool) (r : Option R) : Option R := cond b r none
def am_p1i (st : List Value) (f : Int32 → List Value → Option R) : Option R := match st with
  | .int x :: r => f x r
  | _ => none
def am_p2i (st : List Value) (f : Int32 → Int32 → List Value → Option R) : Option R := match st with
  | .int y :: .int x :: r => f x y r
  | _ => none
def am_p1l (st : List Value) (f : Int64 → List Value → Option R) : Option R := match st with
  | .long x :: r => f x r
  | _ => none
def am_p2l (st : List Value) (f : Int64 → Int64 → List Value → Option R) : Option R := match st with
  | .long y :: .long x :: r => f x y r
  | _ => none
def am_p1r (st : List Value) (f : Nat → List Value → Option R) : Option R := match st with
  | .ref x :: r => f x r
  | _ => none
/-- what astore takes: a ref, or what was caught (which is dropped) -/
def am_pst (st : List Value) (f : Nat → List Value → Option R) (g : List Value → Option R) : Option R := match st with
  | .ref x :: r => f x r
  | .retAddr _ :: r => g r
  | _ => none
def am_p2r (st : List Value) (f : Nat → Nat → List Value → Option R) : Option R := match st with
  | .ref y :: .ref x :: r => f x y r
  | _ => none
def am_pia (st : List Value) (f : Nat → Int32 → List Value → Option R) : Option R := match st with
  | .int i :: .ref a :: r => f a i r
  | _ => none
def am_p1 (st : List Value) (f : Value → List Value → Option R) : Option R := match st with
  | v :: r => am_if (Nat.beq v.category 1) (f v r)
  | _ => none
def am_p2 (st : List Value) (f : Value → Value → List Value → Option R) : Option R := match st with
  | v :: w :: r => am_if (Nat.beq v.category 1 && Nat.beq w.category 1) (f v w r)
  | _ => none
def am_ldi (ls : List (Option Value)) (i : Nat) (f : Int32 → Option R) : Option R := match am_nth ls i with
  | some (some (.int x)) => f x
  | _ => none
def am_ldl (ls : List (Option Value)) (i : Nat) (f : Int64 → Option R) : Option R := match am_nth ls i with
  | some (some (.long x)) => f x
  | _ => none
def am_lda (ls : List (Option Value)) (i : Nat) (f : Nat → Option R) : Option R := match am_nth ls i with
  | some (some (.ref x)) => f x
  | _ => none
def am_tg (pc : Nat) (off : Int) (f : Nat → Option R) : Option R := match (pc : Int) + off with
  | .ofNat t => f t
  | .negSucc _ => none
def am_sw (x : Int32) (d : Option R) (f : Int → Option R) : List (Int × Int) → Option R
  | [] => d
  | (a, o) :: t => if x = am_ic a then f o else am_sw x d f t
def am_tsl : Int → List Int → List (Int × Int)
  | _, [] => []
  | a, o :: t => (a, o) :: am_tsl (a + 1) t
def am_swg (l : List (Int × Int)) : Bool := l.all (fun q => decide (-2147483648 ≤ q.1) && decide (q.1 < 2147483648))
def am_cv (r : Option (Value × am_St)) (f : am_St → Option R) : Option R := match r with
  | some (.null, s) => f s
  | _ => none
def am_ci (r : Option (Value × am_St)) (f : Int32 → am_St → Option R) : Option R := match r with
  | some (.int x, s) => f x s
  | _ => none
def am_cl (r : Option (Value × am_St)) (f : Int64 → am_St → Option R) : Option R := match r with
  | some (.long x, s) => f x s
  | _ => none
def am_cr (r : Option (Value × am_St)) (f : Nat → am_St → Option R) : Option R := match r with
  | some (.ref x, s) => f x s
  | _ => none
def am_ct (r : Option (Value × am_St)) (f g : am_St → Option R) : Option R := match r with
  | some (.null, s) => f s
  | some (.retAddr _, s) => g s
  | _ => none
def am_rc (G : am_Gt) (ci : Nat) : List Value → Bool
  | .ref o :: _ => Nat.blt o 64 && Nat.beq (am_kl G o) ci
  | _ => false
abbrev am_Kt (R : Type) : Type := Nat → List (Option Value) → List Value → am_St → Option R
def am_thr (P : am_Pt) (pc : Nat) (ls : List (Option Value)) (s : am_St) (k : am_Kt R) (fin : Value → am_St → Option R) : Option R := match am_hd P with
  | none => fin (.retAddr 1) s
  | some (a, b, h) => am_if (Nat.ble a pc && Nat.blt pc b) (k h ls [.retAddr 7] s)
/-- the top n of the stack, in the order of their pushing, and the rest -/
def am_spl : Nat → List Value → List Value → (List Value → List Value → Option R) → Option R
  | 0, st, acc, f => f acc st
  | n + 1, v :: t, acc, f => am_spl n t (v :: acc) f
  | _ + 1, [], _, _ => none
def am_hdr (l : List Value) (f : Nat → Option R) : Option R := match l with
  | .ref a :: _ => f a
  | _ => none
/-- a call of a method: arguments a (with the receiver), the rest of the stack r, answer sort rk -/
def am_cm (G : am_Gt) (P : am_Pt) (rk : Nat) (f : am_MF) (pc : Nat) (ls : List (Option Value)) (a r : List Value) (s : am_St) (k : am_Kt R) (fin : Value → am_St → Option R) : Option R :=
  match rk with
  | 0 => am_cv (f a s) fun s' => am_if (am_gv G s s' r && am_gl G s s' ls) (k (pc + 3) ls r s')
  | 1 => am_ci (f a s) fun x s' => am_if (am_gv G s s' r && am_gl G s s' ls) (k (pc + 3) ls (.int x :: r) s')
  | 2 => am_cl (f a s) fun x s' => am_if (am_gv G s s' r && am_gl G s s' ls) (k (pc + 3) ls (.long x :: r) s')
  | 3 => am_cr (f a s) fun x s' => am_if (am_gv G s s' r && am_gl G s s' ls) (am_if (Nat.ble 64 x) (k (pc + 3) ls (.ref x :: r) s'))
  | 4 => am_ct (f a s) (fun s' => am_if (am_gv G s s' r && am_gl G s s' ls) (k (pc + 3) ls r s')) (fun s' => am_if (am_gv G s s' r && am_gl G s s' ls) (am_thr P pc ls s' k fin))
  | 5 => am_cr (f a s) fun x s' => am_if (am_gv G s s' r && am_gl G s s' ls) (am_hdr a fun a0 => cond (Nat.beq x a0) (k (pc + 3) ls (.ref a0 :: r) s') (am_if (Nat.beq x (am_T (am_et G a0))) (k (pc + 3) ls (.ref (am_T (am_et G a0)) :: r) s')))
  | 6 => am_cr (f a s) fun x s' => am_if (am_gv G s s' r && am_gl G s s' ls) (am_if (Nat.beq x (am_T 4)) (k (pc + 3) ls (.ref (am_T 4) :: r) s'))
  | _ => none
def am_call (G : am_Gt) (P : am_Pt) (t ix pc : Nat) (ls : List (Option Value)) (st : List Value) (s : am_St) (k : am_Kt R) (fin : Value → am_St → Option R) : Option R :=
  match am_fC P ix with
  | none => none
  | some (form, n, rk, ci, f) => am_if (Nat.beq (form % 3) t) (match form with
    | 0 => am_spl n st [] fun a r => am_if (Nat.ble (am_cats r) 8) (am_cm G P rk f pc ls a r s k fin)
    | 1 => am_spl (n + 1) st [] fun a r => am_if (Nat.ble (am_cats r) 8 && am_rc G ci a) (am_cm G P rk f pc ls a r s k fin)
    | 2 => am_spl (n + 1) st [] fun a r => am_if (Nat.ble (am_cats r) 8 && am_rc G ci a) (am_cm G P rk f pc ls a r s k fin)
    | 3 => (match st with
      | .int m :: .int dp :: .ref a :: .int sp :: .ref b :: r => am_if (am_isA a && (am_isA b && (Nat.beq (am_et G a) (am_et G b) && (Nat.ble (am_et G a) 1 && Nat.ble (am_cats r) 8)))) (am_if (am_cpg sp dp m (am_al s b) (am_al s a)) (k (pc + 3) ls r (am_sA s a (va_cpy (am_ai s b) (am_ai s a) sp.toNatClampNeg dp.toNatClampNeg m.toNatClampNeg))))
      | _ => none)
    | 4 => am_p1r st fun x r => am_if (Nat.ble 20000 x && Nat.blt x 20035) (am_if (Nat.ble (am_cats r) 8) (k (pc + 3) ls (.int (nI (x % 100)) :: r) s))
    | 5 => am_p1r st fun x r => am_if (Nat.blt x 64 && Nat.ble (am_cats r) 8) (k (pc + 3) ls r s)
    | 6 => am_p2i st fun x y r => am_if (Nat.ble (am_cats r) 8) (k (pc + 3) ls (.int (if x ≤ y then x else y) :: r) s)
    | 7 => am_p1r st fun x r => am_if (Nat.ble 30000 x) (am_if (Nat.ble (am_cats r) 8) (k (pc + 3) ls (.int (nI (am_tx G x).length) :: r) s))
    | 10 => am_pia st fun x i r => am_if (Nat.ble 30000 x) (am_if (am_inB i (am_tx G x).length) (am_if (Nat.ble (am_cats r) 8) (k (pc + 3) ls (.int ((am_tx G x).getD i.toNatClampNeg 0) :: r) s)))
    | _ => none)
/-- reading a field -/
def am_get (G : am_Gt) (P : am_Pt) (ix pc : Nat) (ls : List (Option Value)) (st : List Value) (s : am_St) (k : am_Kt R) : Option R :=
  match am_fF P ix with
  | none => none
  | some (ci, j) => am_p1r st fun o r => cond (Nat.beq ci 100) (am_if (Nat.ble 20000 o && Nat.blt o 20035) (k (pc + 3) ls (.ref (2 * o + 1) :: r) s)) (am_if (Nat.blt o 64 && Nat.beq (am_kl G o) ci) (match am_fk (am_ty G ci j) with
    | 0 => k (pc + 3) ls (.int (am_fi s o j) :: r) s
    | 1 => k (pc + 3) ls (.int (am_fi s o j) :: r) s
    | 2 => cond (Nat.beq (am_so G o j) 0) (am_if (Nat.ble 20000 (am_fr s o j)) (k (pc + 3) ls (.ref (am_fr s o j) :: r) s)) (am_if (Nat.blt (am_so G o j) 64) (am_if (Nat.beq (am_fr s o j) (am_so G o j)) (k (pc + 3) ls (.ref (am_so G o j) :: r) s)))
    | 3 => k (pc + 3) ls (.ref (am_A o j) :: r) s
    | _ => none))
/-- writing a field; an array comes to its place -/
def am_put (G : am_Gt) (P : am_Pt) (ix pc : Nat) (ls : List (Option Value)) (st : List Value) (s : am_St) (k : am_Kt R) : Option R :=
  match am_fW P ix with
  | none => none
  | some (ci, j) => (match st with
    | .int x :: .ref o :: r => am_if (Nat.blt o 64 && Nat.beq (am_kl G o) ci) (match am_fk (am_ty G ci j) with
      | 0 => k (pc + 3) ls r (am_sI s o j x)
      | 1 => am_if (am_bz x) (k (pc + 3) ls r (am_sI s o j x))
      | _ => none)
    | .ref x :: .ref o :: r => am_if (Nat.blt o 64 && Nat.beq (am_kl G o) ci) (match am_fk (am_ty G ci j) with
      | 2 => cond (Nat.beq (am_so G o j) 0) (am_if (Nat.ble 20000 x) (k (pc + 3) ls r (am_sR s o j x))) (am_if (Nat.blt (am_so G o j) 64 && Nat.beq x (am_so G o j)) (k (pc + 3) ls r (am_sR s o j x)))
      | 3 => cond (Nat.beq x (am_A o j)) (am_if (Nat.blt 0 (am_al s x)) (k (pc + 3) ls r s)) (am_if (Nat.beq x (am_T (am_et G (am_A o j))) && (am_nr (am_A o j) x r && Nat.beq (am_et G x) (am_et G (am_A o j)))) (am_if (Nat.blt 0 (am_al s x) && (!(am_fx G (am_A o j)) || Nat.beq (am_al s (am_A o j)) 0)) (k (pc + 3) (am_drop (am_A o j) x ls) r (am_mA s (am_A o j) x))))
      | _ => none)
    | _ => none)
def am_bc (pc : Nat) (c : Jvm.ClassFile.Cond) (x y : Int32) (t e : Option R) : Option R := match c with
  | .eq => if x = y then t else e
  | .ne => if x = y then e else t
  | .lt => if x < y then t else e
  | .ge => if x < y then e else t
  | .gt => if y < x then t else e
  | .le => if y < x then e else t
def am_x_iconst (G : am_Gt) (P : am_Pt) (len pc : Nat) (ls : List (Option Value)) (st : List Value) (s : am_St) (k : am_Kt R) (fin : Value → am_St → Option R) (n : Int) (cst : Int32) : Option R := am_ln len 1 (k (pc + 1) ls (.int cst :: st) s)
def am_x_bipush (G : am_Gt) (P : am_Pt) (len pc : Nat) (ls : List (Option Value)) (st : List Value) (s : am_St) (k : am_Kt R) (fin : Value → am_St → Option R) (n : Int) (cst : Int32) : Option R := am_ln len 2 (k (pc + 2) ls (.int cst :: st) s)
def am_x_sipush (G : am_Gt) (P : am_Pt) (len pc : Nat) (ls : List (Option Value)) (st : List Value) (s : am_St) (k : am_Kt R) (fin : Value → am_St → Option R) (n : Int) (cst : Int32) : Option R := am_ln len 3 (k (pc + 3) ls (.int cst :: st) s)
def am_x_lconst (G : am_Gt) (P : am_Pt) (len pc : Nat) (ls : List (Option Value)) (st : List Value) (s : am_St) (k : am_Kt R) (fin : Value → am_St → Option R) (n : Fin 2) : Option R := am_ln len 1 (k (pc + 1) ls (.long (cond (Nat.beq n.val 0) 0 1) :: st) s)
def am_x_ldc (G : am_Gt) (P : am_Pt) (len pc : Nat) (ls : List (Option Value)) (st : List Value) (s : am_St) (k : am_Kt R) (fin : Value → am_St → Option R) (ix : Nat) : Option R := am_ln len 2 (match am_fS P ix with | some x => k (pc + 2) ls (.ref x :: st) s | none => none)
def am_x_getstatic (G : am_Gt) (P : am_Pt) (len pc : Nat) (ls : List (Option Value)) (st : List Value) (s : am_St) (k : am_Kt R) (fin : Value → am_St → Option R) (ix : Nat) : Option R := am_ln len 3 (match am_fS P ix with | some x => k (pc + 3) ls (.ref x :: st) s | none => none)
def am_x_ldc2_w (G : am_Gt) (P : am_Pt) (len pc : Nat) (ls : List (Option Value)) (st : List Value) (s : am_St) (k : am_Kt R) (fin : Value → am_St → Option R) (ix : Nat) : Option R := am_ln len 3 (match am_fL P ix with | some x => k (pc + 3) ls (.long x :: st) s | none => none)
def am_x_iload_n (G : am_Gt) (P : am_Pt) (len pc : Nat) (ls : List (Option Value)) (st : List Value) (s : am_St) (k : am_Kt R) (fin : Value → am_St → Option R) (n : Fin 4) : Option R := am_ln len 1 (am_ldi ls n.val fun x => k (pc + 1) ls (.int x :: st) s)
def am_x_iload (G : am_Gt) (P : am_Pt) (len pc : Nat) (ls : List (Option Value)) (st : List Value) (s : am_St) (k : am_Kt R) (fin : Value → am_St → Option R) (n : Nat) : Option R := am_ln len 2 (am_ldi ls n fun x => k (pc + 2) ls (.int x :: st) s)
def am_x_lload_n (G : am_Gt) (P : am_Pt) (len pc : Nat) (ls : List (Option Value)) (st : List Value) (s : am_St) (k : am_Kt R) (fin : Value → am_St → Option R) (n : Fin 4) : Option R := am_ln len 1 (am_ldl ls n.val fun x => k (pc + 1) ls (.long x :: st) s)
def am_x_lload (G : am_Gt) (P : am_Pt) (len pc : Nat) (ls : List (Option Value)) (st : List Value) (s : am_St) (k : am_Kt R) (fin : Value → am_St → Option R) (n : Nat) : Option R := am_ln len 2 (am_ldl ls n fun x => k (pc + 2) ls (.long x :: st) s)
def am_x_aload_n (G : am_Gt) (P : am_Pt) (len pc : Nat) (ls : List (Option Value)) (st : List Value) (s : am_St) (k : am_Kt R) (fin : Value → am_St → Option R) (n : Fin 4) : Option R := am_ln len 1 (am_lda ls n.val fun x => k (pc + 1) ls (.ref x :: st) s)
def am_x_aload (G : am_Gt) (P : am_Pt) (len pc : Nat) (ls : List (Option Value)) (st : List Value) (s : am_St) (k : am_Kt R) (fin : Value → am_St → Option R) (n : Nat) : Option R := am_ln len 2 (am_lda ls n fun x => k (pc + 2) ls (.ref x :: st) s)
def am_x_istore_n (G : am_Gt) (P : am_Pt) (len pc : Nat) (ls : List (Option Value)) (st : List Value) (s : am_St) (k : am_Kt R) (fin : Value → am_St → Option R) (n : Fin 4) : Option R := am_ln len 1 (am_if (Nat.blt n.val ls.length) (am_p1i st fun x r => am_s1c ls n.val (.int x) fun l => k (pc + 1) l r s))
def am_x_istore (G : am_Gt) (P : am_Pt) (len pc : Nat) (ls : List (Option Value)) (st : List Value) (s : am_St) (k : am_Kt R) (fin : Value → am_St → Option R) (n : Nat) : Option R := am_ln len 2 (am_if (Nat.blt n ls.length) (am_p1i st fun x r => am_s1c ls n (.int x) fun l => k (pc + 2) l r s))
def am_x_lstore_n (G : am_Gt) (P : am_Pt) (len pc : Nat) (ls : List (Option Value)) (st : List Value) (s : am_St) (k : am_Kt R) (fin : Value → am_St → Option R) (n : Fin 4) : Option R := am_ln len 1 (am_if (Nat.blt (n.val + 1) ls.length) (am_p1l st fun x r => am_s2c ls n.val (.long x) fun l => k (pc + 1) l r s))
def am_x_lstore (G : am_Gt) (P : am_Pt) (len pc : Nat) (ls : List (Option Value)) (st : List Value) (s : am_St) (k : am_Kt R) (fin : Value → am_St → Option R) (n : Nat) : Option R := am_ln len 2 (am_if (Nat.blt (n + 1) ls.length) (am_p1l st fun x r => am_s2c ls n (.long x) fun l => k (pc + 2) l r s))
def am_x_astore_n (G : am_Gt) (P : am_Pt) (len pc : Nat) (ls : List (Option Value)) (st : List Value) (s : am_St) (k : am_Kt R) (fin : Value → am_St → Option R) (n : Fin 4) : Option R := am_ln len 1 (am_if (Nat.blt n.val ls.length) (am_pst st (fun x r => am_s1c ls n.val (.ref x) fun l => k (pc + 1) l r s) (fun r => k (pc + 1) (am_set (am_pre ls n.val) n.val none) r s)))
def am_x_astore (G : am_Gt) (P : am_Pt) (len pc : Nat) (ls : List (Option Value)) (st : List Value) (s : am_St) (k : am_Kt R) (fin : Value → am_St → Option R) (n : Nat) : Option R := am_ln len 2 (am_if (Nat.blt n ls.length) (am_pst st (fun x r => am_s1c ls n (.ref x) fun l => k (pc + 2) l r s) (fun r => k (pc + 2) (am_set (am_pre ls n) n none) r s)))
def am_x_iinc (G : am_Gt) (P : am_Pt) (len pc : Nat) (ls : List (Option Value)) (st : List Value) (s : am_St) (k : am_Kt R) (fin : Value → am_St → Option R) (n : Nat) (v : Int) (cst : Int32) : Option R := am_ln len 3 (am_if (Nat.blt n ls.length) (am_ldi ls n fun x => am_s1c ls n (.int (x + cst)) fun l => k (pc + 3) l st s))
def am_x_iadd (G : am_Gt) (P : am_Pt) (len pc : Nat) (ls : List (Option Value)) (st : List Value) (s : am_St) (k : am_Kt R) (fin : Value → am_St → Option R) : Option R := am_ln len 1 (am_p2i st fun x y r => k (pc + 1) ls (.int (x + y) :: r) s)
def am_x_isub (G : am_Gt) (P : am_Pt) (len pc : Nat) (ls : List (Option Value)) (st : List Value) (s : am_St) (k : am_Kt R) (fin : Value → am_St → Option R) : Option R := am_ln len 1 (am_p2i st fun x y r => k (pc + 1) ls (.int (x - y) :: r) s)
def am_x_imul (G : am_Gt) (P : am_Pt) (len pc : Nat) (ls : List (Option Value)) (st : List Value) (s : am_St) (k : am_Kt R) (fin : Value → am_St → Option R) : Option R := am_ln len 1 (am_p2i st fun x y r => k (pc + 1) ls (.int (x * y) :: r) s)
def am_x_iand (G : am_Gt) (P : am_Pt) (len pc : Nat) (ls : List (Option Value)) (st : List Value) (s : am_St) (k : am_Kt R) (fin : Value → am_St → Option R) : Option R := am_ln len 1 (am_p2i st fun x y r => k (pc + 1) ls (.int (x &&& y) :: r) s)
def am_x_ixor (G : am_Gt) (P : am_Pt) (len pc : Nat) (ls : List (Option Value)) (st : List Value) (s : am_St) (k : am_Kt R) (fin : Value → am_St → Option R) : Option R := am_ln len 1 (am_p2i st fun x y r => k (pc + 1) ls (.int (x ^^^ y) :: r) s)
def am_x_irem (G : am_Gt) (P : am_Pt) (len pc : Nat) (ls : List (Option Value)) (st : List Value) (s : am_St) (k : am_Kt R) (fin : Value → am_St → Option R) : Option R := am_ln len 1 (am_p2i st fun x y r => if y = 0 then none else k (pc + 1) ls (.int (x - x / y * y) :: r) s)
def am_x_ineg (G : am_Gt) (P : am_Pt) (len pc : Nat) (ls : List (Option Value)) (st : List Value) (s : am_St) (k : am_Kt R) (fin : Value → am_St → Option R) : Option R := am_ln len 1 (am_p1i st fun x r => k (pc + 1) ls (.int (-x) :: r) s)
def am_x_ishr (G : am_Gt) (P : am_Pt) (len pc : Nat) (ls : List (Option Value)) (st : List Value) (s : am_St) (k : am_Kt R) (fin : Value → am_St → Option R) : Option R := am_ln len 1 (am_p2i st fun x y r => k (pc + 1) ls (.int (x >>> (y &&& 31)) :: r) s)
def am_x_iushr (G : am_Gt) (P : am_Pt) (len pc : Nat) (ls : List (Option Value)) (st : List Value) (s : am_St) (k : am_Kt R) (fin : Value → am_St → Option R) : Option R := am_ln len 1 (am_p2i st fun x y r => k (pc + 1) ls (.int (x.toUInt32 >>> (y.toUInt32 &&& Int32.toUInt32 31)).toInt32 :: r) s)
def am_x_ladd (G : am_Gt) (P : am_Pt) (len pc : Nat) (ls : List (Option Value)) (st : List Value) (s : am_St) (k : am_Kt R) (fin : Value → am_St → Option R) : Option R := am_ln len 1 (am_p2l st fun x y r => k (pc + 1) ls (.long (x + y) :: r) s)
def am_x_lsub (G : am_Gt) (P : am_Pt) (len pc : Nat) (ls : List (Option Value)) (st : List Value) (s : am_St) (k : am_Kt R) (fin : Value → am_St → Option R) : Option R := am_ln len 1 (am_p2l st fun x y r => k (pc + 1) ls (.long (x - y) :: r) s)
def am_x_lmul (G : am_Gt) (P : am_Pt) (len pc : Nat) (ls : List (Option Value)) (st : List Value) (s : am_St) (k : am_Kt R) (fin : Value → am_St → Option R) : Option R := am_ln len 1 (am_p2l st fun x y r => k (pc + 1) ls (.long (x * y) :: r) s)
def am_x_ldiv (G : am_Gt) (P : am_Pt) (len pc : Nat) (ls : List (Option Value)) (st : List Value) (s : am_St) (k : am_Kt R) (fin : Value → am_St → Option R) : Option R := am_ln len 1 (am_p2l st fun x y r => if y = 0 then none else k (pc + 1) ls (.long (x / y) :: r) s)
def am_x_lrem (G : am_Gt) (P : am_Pt) (len pc : Nat) (ls : List (Option Value)) (st : List Value) (s : am_St) (k : am_Kt R) (fin : Value → am_St → Option R) : Option R := am_ln len 1 (am_p2l st fun x y r => if y = 0 then none else k (pc + 1) ls (.long (x - x / y * y) :: r) s)
def am_x_lneg (G : am_Gt) (P : am_Pt) (len pc : Nat) (ls : List (Option Value)) (st : List Value) (s : am_St) (k : am_Kt R) (fin : Value → am_St → Option R) : Option R := am_ln len 1 (am_p1l st fun x r => k (pc + 1) ls (.long (-x) :: r) s)
def am_x_lcmp (G : am_Gt) (P : am_Pt) (len pc : Nat) (ls : List (Option Value)) (st : List Value) (s : am_St) (k : am_Kt R) (fin : Value → am_St → Option R) : Option R := am_ln len 1 (am_p2l st fun x y r => k (pc + 1) ls (.int (lg_cmp x y) :: r) s)
def am_x_i2l (G : am_Gt) (P : am_Pt) (len pc : Nat) (ls : List (Option Value)) (st : List Value) (s : am_St) (k : am_Kt R) (fin : Value → am_St → Option R) : Option R := am_ln len 1 (am_p1i st fun x r => k (pc + 1) ls (.long x.toInt64 :: r) s)
def am_x_l2i (G : am_Gt) (P : am_Pt) (len pc : Nat) (ls : List (Option Value)) (st : List Value) (s : am_St) (k : am_Kt R) (fin : Value → am_St → Option R) : Option R := am_ln len 1 (am_p1l st fun x r => k (pc + 1) ls (.int x.toInt32 :: r) s)
def am_x_i2b (G : am_Gt) (P : am_Pt) (len pc : Nat) (ls : List (Option Value)) (st : List Value) (s : am_St) (k : am_Kt R) (fin : Value → am_St → Option R) : Option R := am_ln len 1 (am_p1i st fun x r => k (pc + 1) ls (.int x.toInt8.toInt32 :: r) s)
def am_x_dup (G : am_Gt) (P : am_Pt) (len pc : Nat) (ls : List (Option Value)) (st : List Value) (s : am_St) (k : am_Kt R) (fin : Value → am_St → Option R) : Option R := am_ln len 1 (am_p1 st fun v r => k (pc + 1) ls (v :: v :: r) s)
def am_x_pop (G : am_Gt) (P : am_Pt) (len pc : Nat) (ls : List (Option Value)) (st : List Value) (s : am_St) (k : am_Kt R) (fin : Value → am_St → Option R) : Option R := am_ln len 1 (am_p1 st fun _ r => k (pc + 1) ls r s)
def am_x_dup_x1 (G : am_Gt) (P : am_Pt) (len pc : Nat) (ls : List (Option Value)) (st : List Value) (s : am_St) (k : am_Kt R) (fin : Value → am_St → Option R) : Option R := am_ln len 1 (am_p2 st fun v w r => k (pc + 1) ls (v :: w :: v :: r) s)
def am_x_dup2 (G : am_Gt) (P : am_Pt) (len pc : Nat) (ls : List (Option Value)) (st : List Value) (s : am_St) (k : am_Kt R) (fin : Value → am_St → Option R) : Option R := am_ln len 1 (am_p2 st fun v w r => k (pc + 1) ls (v :: w :: v :: w :: r) s)
def am_x_pop2 (G : am_Gt) (P : am_Pt) (len pc : Nat) (ls : List (Option Value)) (st : List Value) (s : am_St) (k : am_Kt R) (fin : Value → am_St → Option R) : Option R := am_ln len 1 (am_p1l st fun _ r => k (pc + 1) ls r s)
def am_x_goto (G : am_Gt) (P : am_Pt) (len pc : Nat) (ls : List (Option Value)) (st : List Value) (s : am_St) (k : am_Kt R) (fin : Value → am_St → Option R) (off : Int) : Option R := am_ln len 3 (am_tg pc off fun t => k t ls st s)
def am_x_ifCond (G : am_Gt) (P : am_Pt) (len pc : Nat) (ls : List (Option Value)) (st : List Value) (s : am_St) (k : am_Kt R) (fin : Value → am_St → Option R) (c : Jvm.ClassFile.Cond) (off : Int) : Option R := am_ln len 3 (am_p1i st fun x r => am_tg pc off fun t => am_bc pc c x 0 (k t ls r s) (k (pc + 3) ls r s))
def am_x_if_icmp (G : am_Gt) (P : am_Pt) (len pc : Nat) (ls : List (Option Value)) (st : List Value) (s : am_St) (k : am_Kt R) (fin : Value → am_St → Option R) (c : Jvm.ClassFile.Cond) (off : Int) : Option R := am_ln len 3 (am_p2i st fun x y r => am_tg pc off fun t => am_bc pc c x y (k t ls r s) (k (pc + 3) ls r s))
def am_x_if_acmp (G : am_Gt) (P : am_Pt) (len pc : Nat) (ls : List (Option Value)) (st : List Value) (s : am_St) (k : am_Kt R) (fin : Value → am_St → Option R) (c : ACond) (off : Int) : Option R := am_ln len 3 (am_p2r st fun x y r => am_if (Nat.ble 20000 x && Nat.blt x 20035 && (Nat.ble 20000 y && Nat.blt y 20035)) (am_tg pc off fun t => match c with
      | .eq => if x = y then k t ls r s else k (pc + 3) ls r s
      | .ne => if x = y then k (pc + 3) ls r s else k t ls r s))
def am_x_tableswitch (G : am_Gt) (P : am_Pt) (len pc : Nat) (ls : List (Option Value)) (st : List Value) (s : am_St) (k : am_Kt R) (fin : Value → am_St → Option R) (d lo hi : Int) (offs : Array Int) : Option R := am_p1i st fun x r => am_if (am_swg (am_tsl lo offs.toList) && decide (hi + 1 = lo + (offs.toList.length : Int))) (am_sw x (am_tg pc d fun t => k t ls r s) (fun o => am_tg pc o fun t => k t ls r s) (am_tsl lo offs.toList))
def am_x_lookupswitch (G : am_Gt) (P : am_Pt) (len pc : Nat) (ls : List (Option Value)) (st : List Value) (s : am_St) (k : am_Kt R) (fin : Value → am_St → Option R) (d : Int) (ps : Array (Int × Int)) : Option R := am_p1i st fun x r => am_if (am_swg ps.toList && (ps.toList.zip (ps.toList.drop 1)).all (fun (a, next) => a.1 < next.1)) (am_sw x (am_tg pc d fun t => k t ls r s) (fun o => am_tg pc o fun t => k t ls r s) ps.toList)
def am_x_getfield (G : am_Gt) (P : am_Pt) (len pc : Nat) (ls : List (Option Value)) (st : List Value) (s : am_St) (k : am_Kt R) (fin : Value → am_St → Option R) (ix : Nat) : Option R := am_ln len 3 (am_get G P ix pc ls st s k)
def am_x_putfield (G : am_Gt) (P : am_Pt) (len pc : Nat) (ls : List (Option Value)) (st : List Value) (s : am_St) (k : am_Kt R) (fin : Value → am_St → Option R) (ix : Nat) : Option R := am_ln len 3 (am_put G P ix pc ls st s k)
def am_x_arraylength (G : am_Gt) (P : am_Pt) (len pc : Nat) (ls : List (Option Value)) (st : List Value) (s : am_St) (k : am_Kt R) (fin : Value → am_St → Option R) : Option R := am_ln len 1 (am_p1r st fun a r => am_if (am_isA a) (am_if (Nat.blt 0 (am_al s a)) (k (pc + 1) ls (.int (nI (am_al s a)) :: r) s)))
def am_x_iaload (G : am_Gt) (P : am_Pt) (len pc : Nat) (ls : List (Option Value)) (st : List Value) (s : am_St) (k : am_Kt R) (fin : Value → am_St → Option R) : Option R := am_ln len 1 (am_pia st fun a i r => am_if (am_isA a && Nat.beq (am_et G a) 0) (am_if (am_inB i (am_al s a)) (k (pc + 1) ls (.int (am_ai s a i.toNatClampNeg) :: r) s)))
def am_x_baload (G : am_Gt) (P : am_Pt) (len pc : Nat) (ls : List (Option Value)) (st : List Value) (s : am_St) (k : am_Kt R) (fin : Value → am_St → Option R) : Option R := am_ln len 1 (am_pia st fun a i r => am_if (am_isA a && (Nat.beq (am_et G a) 1 || Nat.beq (am_et G a) 2)) (am_if (am_inB i (am_al s a)) (k (pc + 1) ls (.int (am_ai s a i.toNatClampNeg) :: r) s)))
def am_x_laload (G : am_Gt) (P : am_Pt) (len pc : Nat) (ls : List (Option Value)) (st : List Value) (s : am_St) (k : am_Kt R) (fin : Value → am_St → Option R) : Option R := am_ln len 1 (am_pia st fun a i r => am_if (am_isA a && Nat.beq (am_et G a) 3) (am_if (am_inB i (am_al s a)) (k (pc + 1) ls (.long (am_aL s a i.toNatClampNeg) :: r) s)))
def am_x_aaload (G : am_Gt) (P : am_Pt) (len pc : Nat) (ls : List (Option Value)) (st : List Value) (s : am_St) (k : am_Kt R) (fin : Value → am_St → Option R) : Option R := am_ln len 1 (am_pia st fun a i r => am_if (am_isA a && (Nat.beq (am_et G a) 4 || Nat.beq (am_et G a) 5)) (am_if (am_inB i (am_al s a)) (am_if (Nat.ble 20000 (am_ar s a i.toNatClampNeg)) (k (pc + 1) ls (.ref (am_ar s a i.toNatClampNeg) :: r) s))))
def am_x_iastore (G : am_Gt) (P : am_Pt) (len pc : Nat) (ls : List (Option Value)) (st : List Value) (s : am_St) (k : am_Kt R) (fin : Value → am_St → Option R) : Option R := am_ln len 1 (am_p1i st fun x q => am_pia q fun a i r => am_if (am_isA a && Nat.beq (am_et G a) 0) (am_if (am_inB i (am_al s a)) (k (pc + 1) ls r (am_sA s a (upd (am_ai s a) i.toNatClampNeg x)))))
def am_x_bastore (G : am_Gt) (P : am_Pt) (len pc : Nat) (ls : List (Option Value)) (st : List Value) (s : am_St) (k : am_Kt R) (fin : Value → am_St → Option R) : Option R := am_ln len 1 (am_p1i st fun x q => am_pia q fun a i r => am_if (am_isA a) (match am_et G a with
      | 1 => am_if (am_inB i (am_al s a)) (k (pc + 1) ls r (am_sA s a (upd (am_ai s a) i.toNatClampNeg x.toInt8.toInt32)))
      | 2 => am_if (am_inB i (am_al s a)) (k (pc + 1) ls r (am_sA s a (upd (am_ai s a) i.toNatClampNeg (vp_nar .boolean x))))
      | _ => none))
def am_x_lastore (G : am_Gt) (P : am_Pt) (len pc : Nat) (ls : List (Option Value)) (st : List Value) (s : am_St) (k : am_Kt R) (fin : Value → am_St → Option R) : Option R := am_ln len 1 (am_p1l st fun x q => am_pia q fun a i r => am_if (am_isA a && Nat.beq (am_et G a) 3) (am_if (am_inB i (am_al s a)) (k (pc + 1) ls r (am_sL s a (vp_updL (am_aL s a) i.toNatClampNeg x)))))
def am_x_newarray (G : am_Gt) (P : am_Pt) (len pc : Nat) (ls : List (Option Value)) (st : List Value) (s : am_St) (k : am_Kt R) (fin : Value → am_St → Option R) (t : ArrayType) : Option R := am_ln len 2 (am_p1i st fun n r => match t with
      | .int => am_if (am_nAg n (am_al s (am_T 0))) (k (pc + 2) ls (.ref (am_T 0) :: r) (am_nA s (am_T 0) n.toNatClampNeg))
      | .byte => am_if (am_nAg n (am_al s (am_T 1))) (k (pc + 2) ls (.ref (am_T 1) :: r) (am_nA s (am_T 1) n.toNatClampNeg))
      | .boolean => am_if (am_nAg n (am_al s (am_T 2))) (k (pc + 2) ls (.ref (am_T 2) :: r) (am_nA s (am_T 2) n.toNatClampNeg))
      | .long => am_if (am_nAg n (am_al s (am_T 3))) (k (pc + 2) ls (.ref (am_T 3) :: r) (am_nA s (am_T 3) n.toNatClampNeg))
      | _ => none)
def am_x_anewarray (G : am_Gt) (P : am_Pt) (len pc : Nat) (ls : List (Option Value)) (st : List Value) (s : am_St) (k : am_Kt R) (fin : Value → am_St → Option R) (ix : Nat) : Option R := am_ln len 3 (am_p1i st fun n r => match am_fS P ix with
      | some 5 => am_if (am_nAg n (am_al s (am_T 5))) (k (pc + 3) ls (.ref (am_T 5) :: r) (am_nA s (am_T 5) n.toNatClampNeg))
      | _ => none)
def am_x_aastore (G : am_Gt) (P : am_Pt) (len pc : Nat) (ls : List (Option Value)) (st : List Value) (s : am_St) (k : am_Kt R) (fin : Value → am_St → Option R) : Option R := am_ln len 1 (am_p1r st fun x q => am_pia q fun a i r => am_if (am_isA a && (Nat.beq (am_et G a) 5 && Nat.ble 30000 x)) (am_if (am_inB i (am_al s a)) (k (pc + 1) ls r (am_sQ s a (va_up (am_ar s a) i.toNatClampNeg x)))))
def am_x_new (G : am_Gt) (P : am_Pt) (len pc : Nat) (ls : List (Option Value)) (st : List Value) (s : am_St) (k : am_Kt R) (fin : Value → am_St → Option R) (ix : Nat) : Option R := am_ln len 3 (match am_fN P ix with
      | some (o, n) => am_if (!(am_ob s o) && (Nat.blt o 64 && Nat.blt 0 o)) (k (pc + 3) ls (.ref o :: st) (am_nO s o n))
      | none => none)
def am_x_invokestatic (G : am_Gt) (P : am_Pt) (len pc : Nat) (ls : List (Option Value)) (st : List Value) (s : am_St) (k : am_Kt R) (fin : Value → am_St → Option R) (ix : Nat) : Option R := am_ln len 3 (am_call G P 0 ix pc ls st s k fin)
def am_x_invokevirtual (G : am_Gt) (P : am_Pt) (len pc : Nat) (ls : List (Option Value)) (st : List Value) (s : am_St) (k : am_Kt R) (fin : Value → am_St → Option R) (ix : Nat) : Option R := am_ln len 3 (am_call G P 1 ix pc ls st s k fin)
def am_x_invokespecial (G : am_Gt) (P : am_Pt) (len pc : Nat) (ls : List (Option Value)) (st : List Value) (s : am_St) (k : am_Kt R) (fin : Value → am_St → Option R) (ix : Nat) : Option R := am_ln len 3 (am_call G P 2 ix pc ls st s k fin)
def am_x_ireturn (G : am_Gt) (P : am_Pt) (len pc : Nat) (ls : List (Option Value)) (st : List Value) (s : am_St) (k : am_Kt R) (fin : Value → am_St → Option R) : Option R := am_ln len 1 (am_p1i st fun x r => am_if (am_em r) (am_if (!(am_rz P) || am_bz x) (fin (.int x) s)))
def am_x_lreturn (G : am_Gt) (P : am_Pt) (len pc : Nat) (ls : List (Option Value)) (st : List Value) (s : am_St) (k : am_Kt R) (fin : Value → am_St → Option R) : Option R := am_ln len 1 (am_p1l st fun x r => am_if (am_em r) (fin (.long x) s))
def am_x_areturn (G : am_Gt) (P : am_Pt) (len pc : Nat) (ls : List (Option Value)) (st : List Value) (s : am_St) (k : am_Kt R) (fin : Value → am_St → Option R) : Option R := am_ln len 1 (am_p1r st fun x r => am_if (am_em r) (am_if (Nat.ble 64 x) (fin (.ref x) s)))
def am_x_return_ (G : am_Gt) (P : am_Pt) (len pc : Nat) (ls : List (Option Value)) (st : List Value) (s : am_St) (k : am_Kt R) (fin : Value → am_St → Option R) : Option R := am_ln len 1 (am_if (am_em st) (fin .null s))
/-- one instruction -/
def am_ins (G : am_Gt) (P : am_Pt) (i : Instr) (cst : Int32) (len pc : Nat) (ls : List (Option Value)) (st : List Value) (s : am_St) (k : am_Kt R) (fin : Value → am_St → Option R) : Option R :=
  match i with
  | .iconst n => am_x_iconst G P len pc ls st s k fin n cst
  | .bipush n => am_x_bipush G P len pc ls st s k fin n cst
  | .sipush n => am_x_sipush G P len pc ls st s k fin n cst
  | .lconst n => am_x_lconst G P len pc ls st s k fin n
  | .ldc ix => am_x_ldc G P len pc ls st s k fin ix
  | .getstatic ix => am_x_getstatic G P len pc ls st s k fin ix
  | .ldc2_w ix => am_x_ldc2_w G P len pc ls st s k fin ix
  | .iload_n n => am_x_iload_n G P len pc ls st s k fin n
  | .iload n => am_x_iload G P len pc ls st s k fin n
  | .lload_n n => am_x_lload_n G P len pc ls st s k fin n
  | .lload n => am_x_lload G P len pc ls st s k fin n
  | .aload_n n => am_x_aload_n G P len pc ls st s k fin n
  | .aload n => am_x_aload G P len pc ls st s k fin n
  | .istore_n n => am_x_istore_n G P len pc ls st s k fin n
  | .istore n => am_x_istore G P len pc ls st s k fin n
  | .lstore_n n => am_x_lstore_n G P len pc ls st s k fin n
  | .lstore n => am_x_lstore G P len pc ls st s k fin n
  | .astore_n n => am_x_astore_n G P len pc ls st s k fin n
  | .astore n => am_x_astore G P len pc ls st s k fin n
  | .iinc n v => am_x_iinc G P len pc ls st s k fin n v cst
  | .iadd => am_x_iadd G P len pc ls st s k fin
  | .isub => am_x_isub G P len pc ls st s k fin
  | .imul => am_x_imul G P len pc ls st s k fin
  | .iand => am_x_iand G P len pc ls st s k fin
  | .ixor => am_x_ixor G P len pc ls st s k fin
  | .irem => am_x_irem G P len pc ls st s k fin
  | .ineg => am_x_ineg G P len pc ls st s k fin
  | .ishr => am_x_ishr G P len pc ls st s k fin
  | .iushr => am_x_iushr G P len pc ls st s k fin
  | .ladd => am_x_ladd G P len pc ls st s k fin
  | .lsub => am_x_lsub G P len pc ls st s k fin
  | .lmul => am_x_lmul G P len pc ls st s k fin
  | .ldiv => am_x_ldiv G P len pc ls st s k fin
  | .lrem => am_x_lrem G P len pc ls st s k fin
  | .lneg => am_x_lneg G P len pc ls st s k fin
  | .lcmp => am_x_lcmp G P len pc ls st s k fin
  | .i2l => am_x_i2l G P len pc ls st s k fin
  | .l2i => am_x_l2i G P len pc ls st s k fin
  | .i2b => am_x_i2b G P len pc ls st s k fin
  | .dup => am_x_dup G P len pc ls st s k fin
  | .pop => am_x_pop G P len pc ls st s k fin
  | .dup_x1 => am_x_dup_x1 G P len pc ls st s k fin
  | .dup2 => am_x_dup2 G P len pc ls st s k fin
  | .pop2 => am_x_pop2 G P len pc ls st s k fin
  | .goto off => am_x_goto G P len pc ls st s k fin off
  | .ifCond c off => am_x_ifCond G P len pc ls st s k fin c off
  | .if_icmp c off => am_x_if_icmp G P len pc ls st s k fin c off
  | .if_acmp c off => am_x_if_acmp G P len pc ls st s k fin c off
  | .tableswitch d lo hi offs => am_x_tableswitch G P len pc ls st s k fin d lo hi offs
  | .lookupswitch d ps => am_x_lookupswitch G P len pc ls st s k fin d ps
  | .getfield ix => am_x_getfield G P len pc ls st s k fin ix
  | .putfield ix => am_x_putfield G P len pc ls st s k fin ix
  | .arraylength => am_x_arraylength G P len pc ls st s k fin
  | .iaload => am_x_iaload G P len pc ls st s k fin
  | .baload => am_x_baload G P len pc ls st s k fin
  | .laload => am_x_laload G P len pc ls st s k fin
  | .aaload => am_x_aaload G P len pc ls st s k fin
  | .iastore => am_x_iastore G P len pc ls st s k fin
  | .bastore => am_x_bastore G P len pc ls st s k fin
  | .lastore => am_x_lastore G P len pc ls st s k fin
  | .newarray t => am_x_newarray G P len pc ls st s k fin t
  | .anewarray ix => am_x_anewarray G P len pc ls st s k fin ix
  | .aastore => am_x_aastore G P len pc ls st s k fin
  | .new ix => am_x_new G P len pc ls st s k fin ix
  | .invokestatic ix => am_x_invokestatic G P len pc ls st s k fin ix
  | .invokevirtual ix => am_x_invokevirtual G P len pc ls st s k fin ix
  | .invokespecial ix => am_x_invokespecial G P len pc ls st s k fin ix
  | .ireturn => am_x_ireturn G P len pc ls st s k fin
  | .lreturn => am_x_lreturn G P len pc ls st s k fin
  | .areturn => am_x_areturn G P len pc ls st s k fin
  | .return_ => am_x_return_ G P len pc ls st s k fin
  | _ => none
def am_step (G : am_Gt) (P : am_Pt) (pc : Nat) (ls : List (Option Value)) (st : List Value) (s : am_St) (k : am_Kt R) (fin : Value → am_St → Option R) : Option R :=
  match am_lk (am_code P) pc with
  | some (i, len, cst) => am_ins G P i cst len pc ls st s (fun q l st s => am_mqc (am_mk P) q l fun l' => k q l' st s) fin
  | none => none
end AMI
/-- a run of so many steps at most -/
def am_run (G : am_Gt) (P : am_Pt) : Nat → am_Kt (Value × am_St)
  | 0 => fun _ _ _ _ => none
  | n + 1 => fun pc ls st s => am_step G P pc ls st s (am_run G P n) (fun v t => some (v, t))
