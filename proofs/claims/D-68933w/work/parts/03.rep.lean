/-! WHAT AN ABSTRACT STATE SAYS OF THE HEAP, and how it is kept -/
set_option maxRecDepth 100000
def am_cn (s : am_St) (ad : Nat → Nat) (v : Value) : Value := match v with
  | .ref x => if am_isA x = true ∧ am_al s x = 0 then .null else .ref (ad x)
  | .retAddr _ => .ref (ad 19999)
  | v => v
def am_okv (s : am_St) (v : Value) : Prop := match v with
  | .ref x => x < 64 → am_ob s x = true
  | _ => True
def am_fv (G : am_Gt) (s : am_St) (ad : Nat → Nat) (o ci k : Nat) : Value := match am_ty G ci k with
  | .array _ => am_cn s ad (.ref (am_A o k))
  | .object _ => if am_fr s o k = 0 then .null else .ref (ad (am_fr s o k))
  | _ => .int (am_fi s o k)
def am_Nf (cl : List vw_C) (ci : Nat) : Nat := match cl[ci]? with
  | some q => q.2.2
  | none => 0
def am_rfs (s : am_St) (ad : Nat → Nat) (x : Nat) : Nat → Option Nat := fun j => if am_ar s x j = 0 then none else some (ad (am_ar s x j))
def am_cnt (G : am_Gt) (s : am_St) (ad : Nat → Nat) (x : Nat) : vp_A := match am_et G x with
  | 3 => (am_al s x, .inr (.inl (am_aL s x)))
  | 4 => (am_al s x, .inr (.inr (.inr (.inr (am_rfs s ad x)))))
  | 5 => (am_al s x, .inr (.inr (.inr (.inr (am_rfs s ad x)))))
  | _ => (am_al s x, .inl (am_ai s x))
def am_fs (cl : List vw_C) (G : am_Gt) (s : am_St) (ad : Nat → Nat) (x : Nat) : List Value := (List.range (am_Nf cl (am_kl G x))).map (am_fv G s ad x (am_kl G x))
def am_e (cl : List vw_C) (G : am_Gt) (dA : Nat → ClassId) (s : am_St) (ad : Nat → Nat) (x : Nat) : va_E := if x < 64 then .inr (am_kl G x, am_fs cl G s ad x) else .inl (dA (am_et G x), am_cnt G s ad x)
def am_w (cl : List vw_C) (G : am_Gt) (dA : Nat → ClassId) (s : am_St) (ad : Nat → Nat) (x : Nat) : Nat × va_E := (ad x, am_e cl G dA s ad x)
def am_lv (s : am_St) (x : Nat) : Prop := (x < 64 ∧ am_ob s x = true) ∨ (am_isA x = true ∧ am_al s x ≠ 0)
def am_inv (G : am_Gt) (s : am_St) : Prop := (∀ o k, am_fr s o k = 0 ∨ 20000 ≤ am_fr s o k ∨ (am_fr s o k < 64 ∧ am_ob s (am_fr s o k) = true)) ∧ (∀ x, am_et G x = 1 → ∀ j, fits .byte (.int (am_ai s x j)) = true) ∧ (∀ x j, am_ar s x j = 0 ∨ 20000 ≤ am_ar s x j)
/-- the heap holds the state: a list of what is there, each cell as the state has it -/
def am_Rep (cl : List vw_C) (G : am_Gt) (D : va_G) (dA : Nat → ClassId) (A : Nat → Prop) (s : am_St) (ad : Nat → Nat) (H : Heap) : Prop :=
  (∃ ids : List Nat, ids.Nodup ∧ (∀ x, x ∈ ids ↔ am_lv s x) ∧ va_P D cl (ids.map (am_w cl G dA s ad)) H ∧ va_D A (ids.map (am_w cl G dA s ad))) ∧ am_inv G s
def am_Tr (G : am_Gt) (s0 : am_St) (ad0 : Nat → Nat) (s : am_St) (ad : Nat → Nat) : Prop :=
  (∀ x, x < 64 → am_ob s0 x = true → am_ob s x = true ∧ ad x = ad0 x) ∧
  (∀ x, am_isA x = true → am_mv s0 x ≤ am_mv s x ∧ (am_al s0 x ≠ 0 → (am_fx G x = true ∨ am_mv s x = am_mv s0 x) → am_al s x ≠ 0 ∧ ad x = ad0 x)) ∧
  (∀ x, 20000 ≤ x → ad x = ad0 x) ∧ am_gc s0 ≤ am_gc s ∧ am_gs s0 ≤ am_gs s ∧ (∀ x, am_isA x = true → am_al s0 x = 0 → am_mv s x = am_mv s0 x → am_al s x = 0)
theorem am_Tr.rf {G : am_Gt} {s : am_St} {ad : Nat → Nat} : am_Tr G s ad s ad := ⟨fun _ _ h => ⟨h, rfl⟩, fun _ _ => ⟨Nat.le_refl _, fun h _ => ⟨h, rfl⟩⟩, fun _ _ => rfl, Nat.le_refl _, Nat.le_refl _, fun _ _ h _ => h⟩
theorem am_Tr.tr {G : am_Gt} {s0 s1 s2 : am_St} {a0 a1 a2 : Nat → Nat} (h : am_Tr G s0 a0 s1 a1) (k : am_Tr G s1 a1 s2 a2) : am_Tr G s0 a0 s2 a2 := by
  obtain ⟨h1, h2, h3, h4, h5, h6⟩ := h
  obtain ⟨k1, k2, k3, k4, k5, k6⟩ := k
  refine ⟨fun x hx ho => ?_, fun x hx => ?_, fun x hx => (k3 x hx).trans (h3 x hx), Nat.le_trans h4 k4, Nat.le_trans h5 k5, fun x hx h0 hm => ?_⟩
  · obtain ⟨a, b⟩ := h1 x hx ho
    obtain ⟨c, d⟩ := k1 x hx a
    exact ⟨c, d.trans b⟩
  · obtain ⟨a, b⟩ := h2 x hx
    obtain ⟨c, d⟩ := k2 x hx
    refine ⟨Nat.le_trans a c, fun h0 hf => ?_⟩
    have hf1 : am_fx G x = true ∨ am_mv s1 x = am_mv s0 x := hf.imp id (fun e => by omega)
    obtain ⟨e1, e2⟩ := b h0 hf1
    have hf2 : am_fx G x = true ∨ am_mv s2 x = am_mv s1 x := hf.imp id (fun e => by omega)
    obtain ⟨g1, g2⟩ := d e1 hf2
    exact ⟨g1, g2.trans e2⟩
  · have a := (h2 x hx).1
    have c := (k2 x hx).1
    exact k6 x hx (h6 x hx h0 (by omega)) (by omega)
theorem am_cn_cat (s : am_St) (ad : Nat → Nat) (v : Value) : (am_cn s ad v).category = v.category := by
  cases v <;> simp only [am_cn]
  · split <;> rfl
  · rfl
theorem am_cats_cn (s : am_St) (ad : Nat → Nat) (l : List Value) : ((l.map (am_cn s ad)).map fun v => v.category).sum = am_cats l := by
  simp only [am_cats, List.map_map]
  congr 1
  apply List.map_congr_left
  intro v _
  exact am_cn_cat s ad v
section RP
variable {cl : List vw_C} {G : am_Gt} {D : va_G} {dA : Nat → ClassId} {A : Nat → Prop} {s s' : am_St} {ad ad' : Nat → Nat} {H H' : Heap}
theorem am_ids_at {α β : Type} {ids : List α} (F : α → β) {x : α} (h : x ∈ ids) : ∃ q : Nat, ids[q]? = some x ∧ (ids.map F)[q]? = some (F x) := by
  obtain ⟨q, hq⟩ := List.getElem?_of_mem h
  exact ⟨q, hq, by rw [List.getElem?_map, hq]; rfl⟩
theorem am_ids_set {α β : Type} {ids : List α} {F F' : α → β} (hn : ids.Nodup) {q : Nat} {x : α} (hq : ids[q]? = some x) (h : ∀ y, y ∈ ids → y ≠ x → F' y = F y) : (ids.map F).set q (F' x) = ids.map F' := by
  apply List.ext_getElem?
  intro j
  rw [List.getElem?_set]
  by_cases hj : q = j
  · subst hj
    have hl : q < ids.length := (List.getElem?_eq_some_iff.mp hq).1
    rw [if_pos rfl, List.length_map, if_pos hl, List.getElem?_map, hq]
    rfl
  · rw [if_neg hj, List.getElem?_map, List.getElem?_map]
    cases hy : ids[j]? with
    | none => rfl
    | some y =>
      simp only [Option.map_some]
      rw [h y (List.mem_of_getElem? hy)]
      intro e
      subst e
      have h1 := List.getElem?_eq_some_iff.mp hq
      have h2 := List.getElem?_eq_some_iff.mp hy
      obtain ⟨l1, e1⟩ := h1
      obtain ⟨l2, e2⟩ := h2
      exact hj ((List.getElem_inj hn).mp (e1.trans e2.symm))
theorem am_w_lt {x : Nat} (h : x < 64) : am_w cl G dA s ad x = (ad x, .inr (am_kl G x, am_fs cl G s ad x)) := by simp [am_w, am_e, h]
theorem am_isA_ge {x : Nat} (h : am_isA x = true) : 64 ≤ x ∧ x ≤ 4999 := by
  simp only [am_isA, Bool.and_eq_true] at h
  exact ⟨Nat.le_of_ble_eq_true h.1, Nat.le_of_ble_eq_true h.2⟩
theorem am_isA_of {x : Nat} (h : 64 ≤ x) (h2 : x ≤ 4999) : am_isA x = true := by
  simp only [am_isA, Bool.and_eq_true]
  exact ⟨Nat.ble_eq_true_of_le h, Nat.ble_eq_true_of_le h2⟩
theorem am_w_A {x : Nat} (h : am_isA x = true) : am_w cl G dA s ad x = (ad x, .inl (dA (am_et G x), am_cnt G s ad x)) := by
  have := (am_isA_ge h).1
  simp [am_w, am_e, show ¬ x < 64 by omega]
theorem am_cn_live {x : Nat} (h : am_al s x ≠ 0) : am_cn s ad (.ref x) = .ref (ad x) := by simp [am_cn, h]
theorem am_cn_ob {x : Nat} (h : x < 64) : am_cn s ad (.ref x) = .ref (ad x) := by
  have : am_isA x = false := by
    simp only [am_isA, Bool.and_eq_false_iff]
    left
    cases hh : Nat.ble 64 x with
    | false => rfl
    | true => have := Nat.le_of_ble_eq_true hh; omega
  simp [am_cn, this]
theorem am_isA_big {x : Nat} (h : 4999 < x) : am_isA x = false := by
  simp only [am_isA, Bool.and_eq_false_iff]
  right
  cases hh : Nat.ble x 4999 with
  | false => rfl
  | true => have := Nat.le_of_ble_eq_true hh; omega
theorem am_cn_big {x : Nat} (h : 4999 < x) : am_cn s ad (.ref x) = .ref (ad x) := by simp [am_cn, am_isA_big h]
/-- the same state over another heap that has the same cells -/
theorem am_Rep.kept (h : am_Rep cl G D dA A s ad H) (hq : ∀ q : Nat, q < H.size → A q → H'[q]? = H[q]?) : am_Rep cl G D dA A s ad H' := by
  obtain ⟨⟨ids, hn, hl, hP, hD⟩, hi⟩ := h
  exact ⟨⟨ids, hn, hl, hP.kept fun k q hk => hq q.1 ((hP k q hk).lt) (hD.2 k q hk), hD⟩, hi⟩
theorem am_Rep.at (h : am_Rep cl G D dA A s ad H) {x : Nat} (hx : am_lv s x) : va_at D cl (am_w cl G dA s ad x) H := by
  obtain ⟨⟨ids, hn, hl, hP, hD⟩, hi⟩ := h
  obtain ⟨q, -, hq⟩ := am_ids_at (am_w cl G dA s ad) ((hl x).mpr hx)
  exact hP q _ hq
theorem am_P1 {q : Nat × va_E} (h : va_at D cl q H) : va_P D cl [q] H := by
  intro k r hk
  cases k with
  | zero => cases hk; exact h
  | succ k => simp at hk
/-- a put to the cell of x: the rest of the state is as it was -/
theorem am_Rep.put {x : Nat} (h : am_Rep cl G D dA A s ad H) (hx : am_lv s x) (hlv : ∀ y, am_lv s' y ↔ am_lv s y) (hw : ∀ y, am_lv s y → y ≠ x → am_w cl G dA s' ad y = am_w cl G dA s ad y) (hi : am_inv G s') :
    ∃ (ws : va_W) (q : Nat) , va_P D cl ws H ∧ va_D A ws ∧ ws[q]? = some (am_w cl G dA s ad x) ∧ ∀ H1 : Heap, va_P D cl (ws.set q (am_w cl G dA s' ad x)) H1 → am_Rep cl G D dA A s' ad H1 := by
  obtain ⟨⟨ids, hn, hl, hP, hD⟩, hi0⟩ := h
  obtain ⟨q, hq, hqw⟩ := am_ids_at (am_w cl G dA s ad) ((hl x).mpr hx)
  refine ⟨_, q, hP, hD, hqw, fun H1 h1 => ?_⟩
  have e := am_ids_set (F := am_w cl G dA s ad) (F' := am_w cl G dA s' ad) hn hq (fun y hy hne => hw y ((hl y).mp hy) hne)
  have hD1 : va_D A (ids.map (am_w cl G dA s' ad)) := by
    rw [← e]
    exact hD.set (e := (am_w cl G dA s' ad x).2) hqw
  rw [e] at h1
  exact ⟨⟨ids, hn, fun y => (hl y).trans (hlv y).symm, h1, hD1⟩, hi⟩
end RP
/-! locals -/
def am_as : Nat → List (Option Value) → List (Nat × Value)
  | _, [] => []
  | n, none :: t => am_as (n + 1) t
  | n, some v :: t => (n, v) :: am_as (n + 1) t
theorem am_as_mem {j : Nat} {w : Value} : ∀ (n : Nat) (ls : List (Option Value)), (j, w) ∈ am_as n ls ↔ n ≤ j ∧ am_nth ls (j - n) = some (some w)
  | n, [] => by simp [am_as, am_nth]
  | n, none :: t => by
    rw [am_as, am_as_mem (n + 1) t]
    constructor
    · rintro ⟨h1, h2⟩
      refine ⟨by omega, ?_⟩
      obtain ⟨d, rfl⟩ : ∃ d, j = n + 1 + d := ⟨j - (n + 1), by omega⟩
      rw [show n + 1 + d - n = d + 1 by omega]
      rw [show n + 1 + d - (n + 1) = d by omega] at h2
      exact h2
    · rintro ⟨h1, h2⟩
      cases hd : j - n with
      | zero => rw [hd] at h2; cases h2
      | succ d =>
        rw [hd] at h2
        refine ⟨by omega, ?_⟩
        rw [show j - (n + 1) = d by omega]
        exact h2
  | n, some v :: t => by
    rw [am_as, List.mem_cons, am_as_mem (n + 1) t]
    constructor
    · rintro (h | ⟨h1, h2⟩)
      · cases h
        refine ⟨Nat.le_refl _, ?_⟩
        rw [Nat.sub_self]
        rfl
      · refine ⟨by omega, ?_⟩
        obtain ⟨d, rfl⟩ : ∃ d, j = n + 1 + d := ⟨j - (n + 1), by omega⟩
        rw [show n + 1 + d - n = d + 1 by omega]
        rw [show n + 1 + d - (n + 1) = d by omega] at h2
        exact h2
    · rintro ⟨h1, h2⟩
      cases hd : j - n with
      | zero =>
        rw [hd] at h2
        left
        have : w = v := by simpa [am_nth] using h2.symm
        rw [this, show j = n by omega]
      | succ d =>
        right
        rw [hd] at h2
        refine ⟨by omega, ?_⟩
        rw [show j - (n + 1) = d by omega]
        exact h2
theorem am_as_mem0 {j : Nat} {w : Value} {ls : List (Option Value)} : (j, w) ∈ am_as 0 ls ↔ am_nth ls j = some (some w) := by
  rw [am_as_mem]
  simp
theorem am_nth_set {α : Type} : ∀ (l : List α) (i j : Nat) (b : α), am_nth (am_set l i b) j = if j = i then (if i < l.length then some b else none) else am_nth l j
  | [], i, j, b => by simp [am_set, am_nth]
  | a :: t, 0, 0, b => by simp [am_set, am_nth]
  | a :: t, 0, j + 1, b => by simp [am_set, am_nth]
  | a :: t, i + 1, 0, b => by simp [am_set, am_nth]
  | a :: t, i + 1, j + 1, b => by
    simp only [am_set, am_nth]
    rw [am_nth_set t i j b]
    by_cases h : j = i <;> simp [h]
theorem am_set_len {α : Type} : ∀ (l : List α) (i : Nat) (b : α), (am_set l i b).length = l.length
  | [], i, b => rfl
  | a :: t, 0, b => rfl
  | a :: t, i + 1, b => by simp [am_set, am_set_len t i b]
theorem am_kill_nth {ls : List (Option Value)} {i j : Nat} {w : Value} (h : am_nth (am_kill ls i) j = some (some w)) : am_nth ls j = some (some w) ∧ ¬ (j = i ∧ w.category = 2) := by
  unfold am_kill at h
  split at h
  · rw [am_nth_set] at h
    by_cases e : j = i
    · rw [if_pos e] at h
      split at h <;> cases h
    · rw [if_neg e] at h
      exact ⟨h, fun z => e z.1⟩
  · rw [am_nth_set] at h
    by_cases e : j = i
    · rw [if_pos e] at h
      split at h <;> cases h
    · rw [if_neg e] at h
      exact ⟨h, fun z => e z.1⟩
  · rename_i h1 h2
    refine ⟨h, fun z => ?_⟩
    obtain ⟨e, hc⟩ := z
    subst e
    cases w with
    | long x => exact h1 x h
    | double x => exact h2 x h
    | _ => cases hc
theorem am_kill_len (ls : List (Option Value)) (i : Nat) : (am_kill ls i).length = ls.length := by
  unfold am_kill
  split <;> first | exact am_set_len _ _ _ | rfl
theorem am_pre_nth {ls : List (Option Value)} {i j : Nat} {w : Value} (h : am_nth (am_pre ls i) j = some (some w)) : am_nth ls j = some (some w) ∧ ¬ (j + 1 = i ∧ w.category = 2) := by
  unfold am_pre at h
  cases i with
  | zero => exact ⟨h, fun z => by omega⟩
  | succ i =>
    obtain ⟨a, b⟩ := am_kill_nth h
    exact ⟨a, fun z => b ⟨by omega, z.2⟩⟩
theorem am_pre_len (ls : List (Option Value)) (i : Nat) : (am_pre ls i).length = ls.length := by
  unfold am_pre
  cases i <;> first | rfl | exact am_kill_len _ _
theorem am_s1_nth {ls : List (Option Value)} {i j : Nat} {v w : Value} (hi : i < ls.length) (h : am_nth (am_s1 ls i v) j = some (some w)) : (j = i ∧ w = v) ∨ (j ≠ i ∧ am_nth ls j = some (some w) ∧ ¬ (j + 1 = i ∧ w.category = 2)) := by
  unfold am_s1 at h
  rw [am_nth_set] at h
  by_cases e : j = i
  · rw [if_pos e, if_pos (by rw [am_pre_len]; exact hi)] at h
    exact Or.inl ⟨e, (Option.some.inj (Option.some.inj h)).symm⟩
  · rw [if_neg e] at h
    obtain ⟨a, b⟩ := am_pre_nth h
    exact Or.inr ⟨e, a, b⟩
theorem am_s2_nth {ls : List (Option Value)} {i j : Nat} {v w : Value} (hi : i + 1 < ls.length) (h : am_nth (am_s2 ls i v) j = some (some w)) : (j = i ∧ w = v) ∨ (j ≠ i ∧ j ≠ i + 1 ∧ am_nth ls j = some (some w) ∧ ¬ (j + 1 = i ∧ w.category = 2)) := by
  unfold am_s2 at h
  rw [am_nth_set] at h
  by_cases e : j = i
  · rw [if_pos e, if_pos (by rw [am_set_len, am_pre_len]; omega)] at h
    exact Or.inl ⟨e, (Option.some.inj (Option.some.inj h)).symm⟩
  · rw [if_neg e, am_nth_set] at h
    by_cases e2 : j = i + 1
    · rw [if_pos e2] at h
      split at h <;> cases h
    · rw [if_neg e2] at h
      obtain ⟨a, b⟩ := am_pre_nth h
      exact Or.inr ⟨e, e2, a, b⟩
theorem am_msk_nth : ∀ (m : List Bool) (ls : List (Option Value)) (j : Nat) (w : Value), am_nth (am_msk m ls) j = some (some w) → am_nth ls j = some (some w)
  | [], ls, j, w, h => h
  | _ :: _, [], j, w, h => by cases h
  | b :: m, v :: l, 0, w, h => by
    cases b
    · cases h
    · exact h
  | b :: m, v :: l, j + 1, w, h => am_msk_nth m l j w h
theorem am_msk_len : ∀ (m : List Bool) (ls : List (Option Value)), (am_msk m ls).length = ls.length
  | [], ls => rfl
  | _ :: _, [] => rfl
  | b :: m, v :: l => by simp [am_msk, am_msk_len m l]
/-- the machine's locals hold the abstract ones -/
def am_LR (s : am_St) (ad : Nat → Nat) (nL : Nat) (ls : List (Option Value)) (ml : Array Slot) : Prop := ls.length = nL ∧ lv_has ml nL ((am_as 0 ls).map fun q => (q.1, am_cn s ad q.2)) ∧ ∀ j w, am_nth ls j = some (some w) → am_okv s w
section LRs
variable {s s' : am_St} {ad ad' : Nat → Nat} {nL : Nat} {ls ls' : List (Option Value)} {ml ml' : Array Slot}
theorem am_LR.get (h : am_LR s ad nL ls ml) {j : Nat} {w : Value} (hj : am_nth ls j = some (some w)) : ml[j]? = some (.val (am_cn s ad w)) :=
  h.2.1.2.2 (j, am_cn s ad w) (List.mem_map.mpr ⟨(j, w), am_as_mem0.mpr hj, rfl⟩)
theorem am_LR.sub (h : am_LR s ad nL ls ml) (hl : ls'.length = ls.length) (hs : ∀ j w, am_nth ls' j = some (some w) → am_nth ls j = some (some w)) (hc : ∀ j w, am_nth ls' j = some (some w) → am_cn s' ad' w = am_cn s ad w ∧ am_okv s' w) : am_LR s' ad' nL ls' ml := by
  refine ⟨hl.trans h.1, ⟨h.2.1.1, h.2.1.2.1, fun q hq => ?_⟩, fun j w hj => (hc j w hj).2⟩
  obtain ⟨⟨j, w⟩, hm, rfl⟩ := List.mem_map.mp hq
  have hj := am_as_mem0.mp hm
  show ml[j]? = some (.val (am_cn s' ad' w))
  rw [(hc j w hj).1]
  exact h.get (hs j w hj)
theorem am_LR.msk (h : am_LR s ad nL ls ml) (m : List Bool) : am_LR s ad nL (am_msk m ls) ml :=
  h.sub (am_msk_len m ls) (fun j w hj => am_msk_nth m ls j w hj) (fun j w hj => ⟨rfl, h.2.2 j w (am_msk_nth m ls j w hj)⟩)
theorem am_LR.st1 (h : am_LR s ad nL ls ml) {i : Nat} {v : Value} (hi : i < ls.length) (hv : am_okv s v) (h' : lv_has ml' nL ((i, am_cn s ad v) :: ((am_as 0 ls).map fun q => (q.1, am_cn s ad q.2)).filter (fun q => !(q.1 == i) && !(q.1 + 1 == i && q.2.category == 2)))) : am_LR s ad nL (am_s1 ls i v) ml' := by
  refine ⟨by rw [← h.1]; unfold am_s1; rw [am_set_len, am_pre_len], ⟨h'.1, h'.2.1, fun q hq => ?_⟩, fun j w hj => ?_⟩
  · obtain ⟨⟨j, w⟩, hm, rfl⟩ := List.mem_map.mp hq
    refine h'.2.2 _ ?_
    rcases am_s1_nth hi (am_as_mem0.mp hm) with ⟨rfl, rfl⟩ | ⟨h1, h2, h3⟩
    · exact List.mem_cons_self
    · refine List.mem_cons_of_mem _ (List.mem_filter.mpr ⟨List.mem_map.mpr ⟨(j, w), am_as_mem0.mpr h2, rfl⟩, ?_⟩)
      rw [am_cn_cat]
      simp only [Bool.and_eq_true, Bool.not_eq_true', beq_eq_false_iff_ne, ne_eq, Bool.and_eq_false_iff]
      refine ⟨h1, ?_⟩
      by_cases e : j + 1 = i
      · exact Or.inr fun z => h3 ⟨e, z⟩
      · exact Or.inl e
  · rcases am_s1_nth hi hj with ⟨rfl, rfl⟩ | ⟨h1, h2, h3⟩
    · exact hv
    · exact h.2.2 j w h2
theorem am_LR.st2 (h : am_LR s ad nL ls ml) {i : Nat} {v : Value} (hi : i + 1 < ls.length) (hv : am_okv s v) (h' : lv_has ml' nL ((i, am_cn s ad v) :: ((am_as 0 ls).map fun q => (q.1, am_cn s ad q.2)).filter (fun q => !(q.1 == i) && (!(q.1 == i + 1) && !(q.1 + 1 == i && q.2.category == 2))))) : am_LR s ad nL (am_s2 ls i v) ml' := by
  refine ⟨by rw [← h.1]; unfold am_s2; rw [am_set_len, am_set_len, am_pre_len], ⟨h'.1, h'.2.1, fun q hq => ?_⟩, fun j w hj => ?_⟩
  · obtain ⟨⟨j, w⟩, hm, rfl⟩ := List.mem_map.mp hq
    refine h'.2.2 _ ?_
    rcases am_s2_nth hi (am_as_mem0.mp hm) with ⟨rfl, rfl⟩ | ⟨h1, h1', h2, h3⟩
    · exact List.mem_cons_self
    · refine List.mem_cons_of_mem _ (List.mem_filter.mpr ⟨List.mem_map.mpr ⟨(j, w), am_as_mem0.mpr h2, rfl⟩, ?_⟩)
      rw [am_cn_cat]
      simp only [Bool.and_eq_true, Bool.not_eq_true', beq_eq_false_iff_ne, ne_eq, Bool.and_eq_false_iff]
      refine ⟨h1, h1', ?_⟩
      by_cases e : j + 1 = i
      · exact Or.inr fun z => h3 ⟨e, z⟩
      · exact Or.inl e
  · rcases am_s2_nth hi hj with ⟨rfl, rfl⟩ | ⟨h1, h1', h2, h3⟩
    · exact hv
    · exact h.2.2 j w h2
/-- dropped on being stored -/
theorem am_LR.st0 (h : am_LR s ad nL ls ml) {i : Nat} {v : Value} (h' : lv_has ml' nL ((i, v) :: ((am_as 0 ls).map fun q => (q.1, am_cn s ad q.2)).filter (fun q => !(q.1 == i) && !(q.1 + 1 == i && q.2.category == 2)))) : am_LR s ad nL (am_set (am_pre ls i) i none) ml' := by
  have key : ∀ j w, am_nth (am_set (am_pre ls i) i none) j = some (some w) → j ≠ i ∧ am_nth ls j = some (some w) ∧ ¬ (j + 1 = i ∧ w.category = 2) := by
    intro j w hj
    rw [am_nth_set] at hj
    by_cases e : j = i
    · rw [if_pos e] at hj
      split at hj <;> cases hj
    · rw [if_neg e] at hj
      obtain ⟨a, b⟩ := am_pre_nth hj
      exact ⟨e, a, b⟩
  refine ⟨by rw [← h.1, am_set_len, am_pre_len], ⟨h'.1, h'.2.1, fun q hq => ?_⟩, fun j w hj => h.2.2 j w (key j w hj).2.1⟩
  obtain ⟨⟨j, w⟩, hm, rfl⟩ := List.mem_map.mp hq
  refine h'.2.2 _ ?_
  obtain ⟨h1, h2, h3⟩ := key j w (am_as_mem0.mp hm)
  refine List.mem_cons_of_mem _ (List.mem_filter.mpr ⟨List.mem_map.mpr ⟨(j, w), am_as_mem0.mpr h2, rfl⟩, ?_⟩)
  rw [am_cn_cat]
  simp only [Bool.and_eq_true, Bool.not_eq_true', beq_eq_false_iff_ne, ne_eq, Bool.and_eq_false_iff]
  refine ⟨h1, ?_⟩
  by_cases e : j + 1 = i
  · exact Or.inr fun z => h3 ⟨e, z⟩
  · exact Or.inl e
end LRs
