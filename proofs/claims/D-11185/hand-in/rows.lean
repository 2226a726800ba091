section
/-! The road: every script is one of 16 runs (a face, a way). An evaluator over lists (sm_..) mirrors each printed
predicate, with every bound checked; a lemma a method says: where the evaluator answers, the predicate holds. -/
/-- a state whose arrays are lists -/
abbrev sm_M : Type := Int32 × Int32 × List Int32 × List Int32 × List Int32
/-- a list as an array's content -/
def sm_g (l : List Int32) : Nat → Int32 := fun i => l.getD i 0
/-- bind -/
def sm_b {α β : Type} (o : Option α) (k : α → Option β) : Option β :=
  match o with
  | none => none
  | some x => k x
/-- a read, in bounds -/
def sm_rd (l : List Int32) (n : Nat) (i : Int32) : Option Int32 :=
  if i < 0 ∨ n ≤ i.toNatClampNeg then none else some (l.getD i.toNatClampNeg 0)
/-- a store, in bounds -/
def sm_st (l : List Int32) (n : Nat) (i x : Int32) : Option (List Int32) :=
  if (i < 0 ∨ n ≤ i.toNatClampNeg) ∨ l.length ≤ i.toNatClampNeg then none else some (l.set i.toNatClampNeg x)
theorem sm_b_i {α β : Type} {o : Option α} {k : α → Option β} {y : β} (h : sm_b o k = some y) : ∃ x, o = some x ∧ k x = some y := by
  cases o with
  | none => exact absurd h.symm (Option.some_ne_none y)
  | some x => exact ⟨x, rfl, h⟩
theorem sm_rd_i {l : List Int32} {n : Nat} {i x : Int32} (h : sm_rd l n i = some x) : vp_in i n ∧ sm_g l i.toNatClampNeg = x := by
  unfold sm_rd at h
  by_cases q : i < 0 ∨ n ≤ i.toNatClampNeg
  · rw [if_pos q] at h
    cases h
  · rw [if_neg q] at h
    exact ⟨q, Option.some.inj h⟩
theorem sm_upd {l : List Int32} {k : Nat} {x : Int32} (h : k < l.length) : upd (sm_g l) k x = sm_g (l.set k x) := by
  funext j
  by_cases e : j = k
  · rw [e, pk_us]
    unfold sm_g
    simp [List.getD, h]
  · rw [pk_un e]
    unfold sm_g
    simp [List.getD, List.getElem?_set_ne (Ne.symm e)]
theorem sm_st_i {l l' : List Int32} {n : Nat} {i x : Int32} (h : sm_st l n i x = some l') : vp_in i n ∧ upd (sm_g l) i.toNatClampNeg x = sm_g l' := by
  unfold sm_st at h
  by_cases q : (i < 0 ∨ n ≤ i.toNatClampNeg) ∨ l.length ≤ i.toNatClampNeg
  · rw [if_pos q] at h
    cases h
  · rw [if_neg q] at h
    have e := Option.some.inj h
    have hl : i.toNatClampNeg < l.length := Nat.lt_of_not_le (fun z => q (Or.inr z))
    exact ⟨fun z => q (Or.inl z), by rw [sm_upd hl, e]⟩
theorem sm_0 (n : Nat) : (fun _ => 0 : Nat → Int32) = sm_g (List.replicate n 0) := by
  funext j
  unfold sm_g
  by_cases e : j < n
  · simp [List.getD, e]
  · simp [List.getD, e]
theorem sm_3 : ¬ (3 : Int32) = 0 := by decide
theorem sm_4 : ¬ (4 : Int32) = 0 := by decide
/-- a branch under a post -/
theorem sm_i {α : Type} {c : Prop} [Decidable c] {P : α → Prop} {x y : α} {A B : Prop} (h : P (if c then x else y)) (f : P x → A) (g : P y → B) : (c → A) ∧ (¬ c → B) := by
  refine ⟨fun z => ?_, fun z => ?_⟩
  · rw [if_pos z] at h
    exact f h
  · rw [if_neg z] at h
    exact g h
/-- a branch under a post of two -/
theorem sm_k {α β : Type} {c : Prop} [Decidable c] {P : α → β → Prop} {x y : α} {u : β} {A B : Prop} (h : P (if c then x else y) u) (f : P x u → A) (g : P y u → B) : (c → A) ∧ (¬ c → B) := by
  refine ⟨fun z => ?_, fun z => ?_⟩
  · rw [if_pos z] at h
    exact f h
  · rw [if_neg z] at h
    exact g h
/-- a branch of the evaluator -/
theorem sm_j {α : Type} {c : Prop} [Decidable c] {x y z : α} {A B : Prop} (h : (if c then x else y) = z) (f : x = z → A) (g : y = z → B) : (c → A) ∧ (¬ c → B) := by
  refine ⟨fun q => ?_, fun q => ?_⟩
  · rw [if_pos q] at h
    exact f h
  · rw [if_neg q] at h
    exact g h
theorem sm_s {α : Type} {P : α → Prop} {x r : α} (h : some x = some r) (hp : P r) : P x := by
  cases h
  exact hp
theorem sm_t {α β : Type} {P : α → β → Prop} {x r : α} {u w : β} (h : some (x, u) = some (r, w)) (hp : P r w) : P x u := by
  cases h
  exact hp

/-! the methods that store nothing -/
def sm_isU (f p : Int32) : Int32 := if ((f >>> (p &&& 31)) &&& 1) = 0 then 0 else 1
theorem sm_isU_ok {post : Int32 → Prop} {v f : Int32} {a b c : Nat → Int32} {p : Int32} (h : post (sm_isU f p)) : wpX_isUsed post (v, f, a, b, c) p := by
  unfold sm_isU at h
  exact sm_i h id id
def sm_isV (v p : Int32) : Int32 := if p < 0 then 0 else if 10 ≤ p then 0 else if ((v >>> (p &&& 31)) &&& 1) = 0 then 0 else 1
theorem sm_isV_ok {post : Int32 → Prop} {v f : Int32} {a b c : Nat → Int32} {p : Int32} (h : post (sm_isV v p)) : wpX_isVertex post (v, f, a, b, c) p := by
  unfold sm_isV at h
  exact sm_i h id (fun h => sm_i h id (fun h => sm_i h id id))
def sm_nx (p : Int32) : Int32 := if (p - p / 3 * 3) = 2 then p - 2 else p + 1
theorem sm_nx_ok {post : Int32 → Prop} {u : St0} {p : Int32} (h : post (sm_nx p)) : wpX_next post u p := by
  unfold sm_nx at h
  exact ⟨sm_3, sm_i h id id⟩
def sm_bf (p : Int32) : Int32 := if (p - p / 3 * 3) = 0 then p + 2 else p - 1
theorem sm_bf_ok {post : Int32 → Prop} {u : St0} {p : Int32} (h : post (sm_bf p)) : wpX_before post u p := by
  unfold sm_bf at h
  exact ⟨sm_3, sm_i h id id⟩
def sm_to (a : List Int32) (p : Int32) : Option Int32 := sm_rd a 48 (sm_nx p)
theorem sm_to_ok {post : Int32 → Prop} {v f : Int32} {a : List Int32} {b c : Nat → Int32} {p r : Int32} (h : sm_to a p = some r) (hp : post r) : wpX_to post (v, f, sm_g a, b, c) p := by
  unfold wpX_to
  refine sm_nx_ok ?_
  have t := sm_rd_i h
  refine ⟨t.1, ?_⟩
  rw [t.2]
  exact hp
def sm_th (a : List Int32) (p : Int32) : Option Int32 := sm_rd a 48 (sm_bf p)
theorem sm_th_ok {post : Int32 → Prop} {v f : Int32} {a : List Int32} {b c : Nat → Int32} {p r : Int32} (h : sm_th a p = some r) (hp : post r) : wpX_third post (v, f, sm_g a, b, c) p := by
  unfold wpX_third
  refine sm_bf_ok ?_
  have t := sm_rd_i h
  refine ⟨t.1, ?_⟩
  rw [t.2]
  exact hp
def sm_findL (a b : List Int32) (q : Int32) : Nat → Int32 → Int32 → Option Int32
  | 0 => fun _ _ => none
  | n + 1 => fun x3 x4 => if 10 ≤ x4 then some (-1) else sm_b (sm_to a x3) fun r => if r = q then some x3 else sm_b (sm_rd b 48 (sm_bf x3)) fun y => sm_findL a b q n y (x4 + 1)
theorem sm_findL_ok {post : Int32 → Prop} {v f : Int32} {a b : List Int32} {c : Nat → Int32} {q r : Int32} (hp : post r) : ∀ n x3 x4, sm_findL a b q n x3 x4 = some r → wX_find_28 post q v f (sm_g a) (sm_g b) c n x3 x4 := by
  intro n
  induction n with
  | zero =>
    intro x3 x4 h
    exact absurd h.symm (Option.some_ne_none r)
  | succ n ih =>
    intro x3 x4 h
    unfold sm_findL at h
    refine sm_j h (fun h => sm_s h hp) (fun h => ?_)
    obtain ⟨t, ht, h⟩ := sm_b_i h
    refine sm_to_ok ht ?_
    refine sm_j h (fun h => sm_s h hp) (fun h => ?_)
    obtain ⟨y, hy, h⟩ := sm_b_i h
    refine sm_bf_ok ?_
    exact ⟨(sm_rd_i hy).1, nm_r (sm_rd_i hy).2 (nm_e (ih _ _ h))⟩
def sm_find (v : Int32) (a b c : List Int32) (p q : Int32) : Option Int32 :=
  if sm_isV v p = 0 then some (-1) else if sm_isV v q = 0 then some (-1) else sm_b (sm_rd c 10 p) fun x => sm_findL a b q 11 x 0
theorem sm_find_ok {post : Int32 → Prop} {v f : Int32} {a b c : List Int32} {p q r : Int32} (h : sm_find v a b c p q = some r) (hp : post r) : wpX_find post (v, f, sm_g a, sm_g b, sm_g c) p q := by
  unfold sm_find at h
  unfold wpX_find
  refine sm_isV_ok ?_
  refine sm_j h (fun h => sm_s h hp) (fun h => ?_)
  refine sm_isV_ok ?_
  refine sm_j h (fun h => sm_s h hp) (fun h => ?_)
  obtain ⟨x, hx, h⟩ := sm_b_i h
  exact ⟨(sm_rd_i hx).1, nm_r (sm_rd_i hx).2 ⟨11, sm_findL_ok hp _ _ _ h⟩⟩
def sm_fvL (v : Int32) : Nat → Int32 → Option Int32
  | 0 => fun _ => none
  | n + 1 => fun x => if 10 ≤ x then some x else if sm_isV v x = 0 then some x else sm_fvL v n (x + 1)
theorem sm_fvL_ok {post : Int32 → Prop} {v f : Int32} {a b c : Nat → Int32} {r : Int32} (hp : post r) : ∀ n x, sm_fvL v n x = some r → wX_freeVertex_2 post v f a b c n x := by
  intro n
  induction n with
  | zero =>
    intro x h
    exact absurd h.symm (Option.some_ne_none r)
  | succ n ih =>
    intro x h
    unfold sm_fvL at h
    refine sm_j h (fun h => sm_s h hp) (fun h => ?_)
    refine sm_isV_ok ?_
    exact sm_j h (fun h => sm_s h hp) (fun h => nm_e (ih _ h))
theorem sm_fv_ok {post : Int32 → Prop} {v f : Int32} {a b c : Nat → Int32} {r : Int32} (h : sm_fvL v 11 0 = some r) (hp : post r) : wpX_freeVertex post (v, f, a, b, c) :=
  ⟨11, sm_fvL_ok hp _ _ h⟩
def sm_nfL (f : Int32) : Nat → Int32 → Option Int32
  | 0 => fun _ => none
  | n + 1 => fun x => if 15 ≤ x then some x else if sm_isU f x = 0 then some x else sm_nfL f n (x + 1)
theorem sm_nfL_ok {post : Int32 → St2 → Prop} {v f : Int32} {a b c : Nat → Int32} {r : Int32} (hp : post r (v, f ||| ((1 : Int32) <<< (r &&& 31)), a, b, c)) : ∀ n x, sm_nfL f n x = some r → wX_newFace_2 post v f a b c n x := by
  have e : ∀ x, some x = some r → wX_newFace_22 post x v f a b c := by
    intro x h
    cases h
    exact nm_e hp
  intro n
  induction n with
  | zero =>
    intro x h
    exact absurd h.symm (Option.some_ne_none r)
  | succ n ih =>
    intro x h
    unfold sm_nfL at h
    refine sm_j h (e x) (fun h => ?_)
    refine sm_isU_ok ?_
    exact sm_j h (e x) (fun h => nm_e (ih _ h))
theorem sm_nf_ok {post : Int32 → St2 → Prop} {v f : Int32} {a b c : Nat → Int32} {r : Int32} (h : sm_nfL f 16 0 = some r) (hp : post r (v, f ||| ((1 : Int32) <<< (r &&& 31)), a, b, c)) : wpX_newFace post (v, f, a, b, c) :=
  ⟨16, sm_nfL_ok hp _ _ h⟩
def sm_onL (x1 : Int32) : Nat → Int32 → Int32 → Option Int32
  | 0 => fun _ _ => none
  | n + 1 => fun x2 x3 => if 16 ≤ x3 then some x2 else sm_onL x1 n (x2 + ((x1 >>> (x3 &&& 31)) &&& 1)) (x3 + 1)
theorem sm_onL_ok {post : Int32 → Prop} {v f : Int32} {a b c : Nat → Int32} {x1 r : Int32} (hp : post r) : ∀ n x2 x3, sm_onL x1 n x2 x3 = some r → wX_ones_4 post x1 v f a b c n x2 x3 := by
  intro n
  induction n with
  | zero =>
    intro x2 x3 h
    exact absurd h.symm (Option.some_ne_none r)
  | succ n ih =>
    intro x2 x3 h
    unfold sm_onL at h
    exact sm_j h (fun h => sm_s h hp) (fun h => nm_e (nm_e (ih _ _ h)))
def sm_on (x : Int32) : Option Int32 := sm_onL x 17 0 0
theorem sm_on_ok {post : Int32 → Prop} {v f : Int32} {a b c : Nat → Int32} {x r : Int32} (h : sm_on x = some r) (hp : post r) : wpX_ones post (v, f, a, b, c) x :=
  ⟨17, sm_onL_ok hp _ _ _ h⟩
def sm_jtL (a b : List Int32) : Nat → Int32 → Int32 → Int32 → Option Int32
  | 0 => fun _ _ _ => none
  | n + 1 => fun x2 x3 x4 => if 10 ≤ x4 then some x2 else sm_b (sm_to a x3) fun t => sm_b (sm_rd b 48 (sm_bf x3)) fun y => sm_jtL a b n (x2 ||| ((1 : Int32) <<< (t &&& 31))) y (x4 + 1)
theorem sm_jtL_ok {post : Int32 → Prop} {v f : Int32} {a b : List Int32} {c : Nat → Int32} {r : Int32} (hp : post r) : ∀ n x2 x3 x4, sm_jtL a b n x2 x3 x4 = some r → wX_joinedTo_12 post v f (sm_g a) (sm_g b) c n x2 x3 x4 := by
  intro n
  induction n with
  | zero =>
    intro x2 x3 x4 h
    exact absurd h.symm (Option.some_ne_none r)
  | succ n ih =>
    intro x2 x3 x4 h
    unfold sm_jtL at h
    refine sm_j h (fun h => sm_s h hp) (fun h => ?_)
    obtain ⟨t, ht, h⟩ := sm_b_i h
    obtain ⟨y, hy, h⟩ := sm_b_i h
    refine sm_to_ok ht (nm_e ?_)
    refine sm_bf_ok ?_
    exact ⟨(sm_rd_i hy).1, nm_r (sm_rd_i hy).2 (nm_e (ih _ _ _ h))⟩
def sm_jt (a b c : List Int32) (p : Int32) : Option Int32 := sm_b (sm_rd c 10 p) fun x => sm_jtL a b 11 0 x 0
theorem sm_jt_ok {post : Int32 → Prop} {v f : Int32} {a b c : List Int32} {p r : Int32} (h : sm_jt a b c p = some r) (hp : post r) : wpX_joinedTo post (v, f, sm_g a, sm_g b, sm_g c) p := by
  unfold sm_jt at h
  obtain ⟨x, hx, h⟩ := sm_b_i h
  exact ⟨(sm_rd_i hx).1, nm_r (sm_rd_i hx).2 ⟨11, sm_jtL_ok hp _ _ _ _ h⟩⟩
def sm_jd (v : Int32) (a b c : List Int32) (p : Int32) : Option Int32 := if sm_isV v p = 0 then some 0 else sm_jt a b c p
theorem sm_jd_ok {post : Int32 → Prop} {v f : Int32} {a b c : List Int32} {p r : Int32} (h : sm_jd v a b c p = some r) (hp : post r) : wpX_joined post (v, f, sm_g a, sm_g b, sm_g c) p := by
  unfold sm_jd at h
  unfold wpX_joined
  refine sm_isV_ok ?_
  exact sm_j h (fun h => sm_s h hp) (fun h => sm_jt_ok h hp)
def sm_dgL (v : Int32) (a b c : List Int32) (x1 : Int32) : Nat → Int32 → Int32 → Option Int32
  | 0 => fun _ _ => none
  | n + 1 => fun x2 x3 => if 10 ≤ x3 then some x2 else sm_b (sm_jd v a b c x3) fun s =>
      if sm_isV v x3 = 0 then sm_dgL v a b c x1 n (x2 + 0) (x3 + 1) else sm_b (sm_on s) fun o =>
      if o = x1 then sm_dgL v a b c x1 n (x2 + 1) (x3 + 1) else sm_dgL v a b c x1 n (x2 + 0) (x3 + 1)
theorem sm_dgL_ok {post : Int32 → Prop} {v f : Int32} {a b c : List Int32} {x1 r : Int32} (hp : post r) : ∀ n x2 x3, sm_dgL v a b c x1 n x2 x3 = some r → wX_ofDegree_4 post x1 v f (sm_g a) (sm_g b) (sm_g c) n x2 x3 := by
  intro n
  induction n with
  | zero =>
    intro x2 x3 h
    exact absurd h.symm (Option.some_ne_none r)
  | succ n ih =>
    intro x2 x3 h
    unfold sm_dgL at h
    refine sm_j h (fun h => sm_s h hp) (fun h => ?_)
    obtain ⟨s, hs, h⟩ := sm_b_i h
    refine sm_jd_ok hs ?_
    refine sm_isV_ok ?_
    refine sm_j h (fun h => nm_e (nm_e (ih _ _ h))) (fun h => ?_)
    obtain ⟨o, ho, h⟩ := sm_b_i h
    refine sm_on_ok ho ?_
    exact sm_j h (fun h => nm_e (nm_e (ih _ _ h))) (fun h => nm_e (nm_e (ih _ _ h)))
def sm_dg (v : Int32) (a b c : List Int32) (x1 : Int32) : Option Int32 := sm_dgL v a b c x1 11 0 0
theorem sm_dg_ok {post : Int32 → Prop} {v f : Int32} {a b c : List Int32} {x1 r : Int32} (h : sm_dg v a b c x1 = some r) (hp : post r) : wpX_ofDegree post (v, f, sm_g a, sm_g b, sm_g c) x1 :=
  ⟨11, sm_dgL_ok hp _ _ _ h⟩
end
section
/-! the methods that store -/
def sm_wr (a : List Int32) (p0 p1 p2 p3 : Int32) : Option (List Int32) :=
  sm_b (sm_st a 48 (3 * p0) p1.toInt8.toInt32) fun a => sm_b (sm_st a 48 ((3 * p0) + 1) p2.toInt8.toInt32) fun a => sm_st a 48 ((3 * p0) + 2) p3.toInt8.toInt32
theorem sm_wr_ok {post : St2 → Prop} {v f : Int32} {a a' : List Int32} {b c : Nat → Int32} {p0 p1 p2 p3 : Int32} (h : sm_wr a p0 p1 p2 p3 = some a') (hp : post (v, f, sm_g a', b, c)) : wpX_write post (v, f, sm_g a, b, c) p0 p1 p2 p3 := by
  unfold sm_wr at h
  obtain ⟨a1, h1, h⟩ := sm_b_i h
  obtain ⟨a2, h2, h⟩ := sm_b_i h
  exact ⟨(sm_st_i h1).1, nm_r (sm_st_i h1).2 ⟨(sm_st_i h2).1, nm_r (sm_st_i h2).2 ⟨(sm_st_i h).1, nm_r (sm_st_i h).2 hp⟩⟩⟩
def sm_lk (b : List Int32) (p q : Int32) : Option (List Int32) :=
  sm_b (sm_st b 48 p q.toInt8.toInt32) fun b => sm_st b 48 q p.toInt8.toInt32
theorem sm_lk_ok {post : St2 → Prop} {v f : Int32} {b b' : List Int32} {a c : Nat → Int32} {p q : Int32} (h : sm_lk b p q = some b') (hp : post (v, f, a, sm_g b', c)) : wpX_link post (v, f, a, sm_g b, c) p q := by
  unfold sm_lk at h
  obtain ⟨b1, h1, h⟩ := sm_b_i h
  exact ⟨(sm_st_i h1).1, nm_r (sm_st_i h1).2 ⟨(sm_st_i h).1, nm_r (sm_st_i h).2 hp⟩⟩
def sm_rfL (f : Int32) (a : List Int32) : Nat → Int32 → List Int32 → Option (List Int32)
  | 0 => fun _ _ => none
  | n + 1 => fun x c => if 48 ≤ x then some c else if sm_isU f (x / 3) = 0 then sm_rfL f a n (x + 1) c else
      sm_b (sm_rd a 48 x) fun y => sm_b (sm_st c 10 y x.toInt8.toInt32) fun c => sm_rfL f a n (x + 1) c
theorem sm_rfL_ok {post : St2 → Prop} {v f : Int32} {a r : List Int32} {b : Nat → Int32} (hp : post (v, f, sm_g a, b, sm_g r)) : ∀ n x c, sm_rfL f a n x c = some r → wX_refresh_2 post v f n x (sm_g a) b (sm_g c) := by
  intro n
  induction n with
  | zero =>
    intro x c h
    exact absurd h.symm (Option.some_ne_none r)
  | succ n ih =>
    intro x c h
    unfold sm_rfL at h
    refine sm_j h (fun h => ?_) (fun h => ⟨sm_3, ?_⟩)
    · cases h
      exact hp
    · refine sm_isU_ok ?_
      refine sm_j h (fun h => nm_e (ih _ _ h)) (fun h => ?_)
      obtain ⟨y, hy, h⟩ := sm_b_i h
      obtain ⟨c', hc, h⟩ := sm_b_i h
      have t := sm_rd_i hy
      have w := sm_st_i hc
      refine ⟨t.1, ?_⟩
      rw [t.2]
      exact ⟨w.1, nm_r w.2 (nm_e (ih _ _ h))⟩
def sm_rf (f : Int32) (a c : List Int32) : Option (List Int32) := sm_rfL f a 49 0 c
theorem sm_rf_ok {post : St2 → Prop} {v f : Int32} {a c r : List Int32} {b : Nat → Int32} (h : sm_rf f a c = some r) (hp : post (v, f, sm_g a, b, sm_g r)) : wpX_refresh post (v, f, sm_g a, b, sm_g c) :=
  ⟨49, sm_rfL_ok hp _ _ _ h⟩

/-! splitFace -/
def sm_sf (v f : Int32) (a b c : List Int32) (p0 p1 p2 : Int32) : Option (Int32 × sm_M) :=
  sm_b (sm_find v a b c p0 p1) fun r1 =>
  if r1 < 0 then some (-1, v, f, a, b, c) else
  sm_b (sm_th a r1) fun r3 =>
  if r3 = p2 then
    sm_b (sm_fvL v 11 0) fun r5 =>
    if r5 = 10 then some (-2, v, f, a, b, c) else
    sm_b (sm_rd b 48 (sm_nx r1)) fun x8 =>
    sm_b (sm_rd b 48 (sm_bf r1)) fun x9 =>
    sm_b (sm_rd b 48 r1) fun x10 =>
    sm_b (sm_nfL f 16 0) fun g =>
    sm_b (sm_nfL (f ||| ((1 : Int32) <<< (g &&& 31))) 16 0) fun k =>
    sm_b (sm_wr a (r1 / 3) p0 p1 r5) fun a =>
    sm_b (sm_wr a g p1 p2 r5) fun a =>
    sm_b (sm_wr a k p2 p0 r5) fun a =>
    sm_b (sm_lk b (3 * (r1 / 3)) x10) fun b =>
    sm_b (sm_lk b (3 * g) x8) fun b =>
    sm_b (sm_lk b (3 * k) x9) fun b =>
    sm_b (sm_lk b ((3 * (r1 / 3)) + 1) ((3 * g) + 2)) fun b =>
    sm_b (sm_lk b ((3 * g) + 1) ((3 * k) + 2)) fun b =>
    sm_b (sm_lk b ((3 * k) + 1) ((3 * (r1 / 3)) + 2)) fun b =>
    sm_b (sm_rf ((f ||| ((1 : Int32) <<< (g &&& 31))) ||| ((1 : Int32) <<< (k &&& 31))) a c) fun c =>
    some (r5, v ||| ((1 : Int32) <<< (r5 &&& 31)), (f ||| ((1 : Int32) <<< (g &&& 31))) ||| ((1 : Int32) <<< (k &&& 31)), a, b, c)
  else some (-1, v, f, a, b, c)
theorem sm_sf_ok {post : Int32 → St2 → Prop} {v f : Int32} {a b c : List Int32} {p0 p1 p2 : Int32} {r v' f' : Int32} {a' b' c' : List Int32} (h : sm_sf v f a b c p0 p1 p2 = some (r, v', f', a', b', c')) (hp : post r (v', f', sm_g a', sm_g b', sm_g c')) : wpX_splitFace post (v, f, sm_g a, sm_g b, sm_g c) p0 p1 p2 := by
  have e : ∀ {x v1 f1 : Int32} {a1 b1 c1 : List Int32}, some (x, v1, f1, a1, b1, c1) = some (r, v', f', a', b', c') → post x (v1, f1, sm_g a1, sm_g b1, sm_g c1) := by
    intro x v1 f1 a1 b1 c1 z
    cases z
    exact hp
  unfold sm_sf at h
  obtain ⟨r1, h1, h⟩ := sm_b_i h
  unfold wpX_splitFace
  refine sm_find_ok h1 ?_
  refine sm_j h (fun h => e h) (fun h => ?_)
  obtain ⟨r3, h3, h⟩ := sm_b_i h
  refine sm_th_ok h3 ?_
  refine sm_j h (fun h => ?_) (fun h => e h)
  obtain ⟨r5, h5, h⟩ := sm_b_i h
  refine sm_fv_ok h5 ?_
  refine sm_j h (fun h => e h) (fun h => ?_)
  obtain ⟨x8, h8, h⟩ := sm_b_i h
  obtain ⟨x9, h9, h⟩ := sm_b_i h
  obtain ⟨x10, h10, h⟩ := sm_b_i h
  refine sm_nx_ok ?_
  refine sm_bf_ok ?_
  refine ⟨(sm_rd_i h8).1, nm_r (sm_rd_i h8).2 ⟨(sm_rd_i h9).1, nm_r (sm_rd_i h9).2 ⟨(sm_rd_i h10).1, nm_r (sm_rd_i h10).2 ⟨sm_3, nm_e ?_⟩⟩⟩⟩
  obtain ⟨g, hg, h⟩ := sm_b_i h
  refine sm_nf_ok hg ?_
  obtain ⟨k, hk, h⟩ := sm_b_i h
  refine sm_nf_ok hk ?_
  obtain ⟨a1, ha1, h⟩ := sm_b_i h
  refine sm_wr_ok ha1 ?_
  obtain ⟨a2, ha2, h⟩ := sm_b_i h
  refine sm_wr_ok ha2 ?_
  obtain ⟨a3, ha3, h⟩ := sm_b_i h
  refine sm_wr_ok ha3 ?_
  obtain ⟨b1, hb1, h⟩ := sm_b_i h
  refine sm_lk_ok hb1 ?_
  obtain ⟨b2, hb2, h⟩ := sm_b_i h
  refine sm_lk_ok hb2 ?_
  obtain ⟨b3, hb3, h⟩ := sm_b_i h
  refine sm_lk_ok hb3 ?_
  obtain ⟨b4, hb4, h⟩ := sm_b_i h
  refine sm_lk_ok hb4 ?_
  obtain ⟨b5, hb5, h⟩ := sm_b_i h
  refine sm_lk_ok hb5 ?_
  obtain ⟨b6, hb6, h⟩ := sm_b_i h
  refine sm_lk_ok hb6 (nm_e ?_)
  obtain ⟨c1, hc1, h⟩ := sm_b_i h
  refine sm_rf_ok hc1 ?_
  exact e h

/-! flip -/
def sm_cf (v : Int32) (a b c : List Int32) (p : Int32) : Option Int32 :=
  sm_b (sm_th a p) fun r1 => sm_b (sm_rd b 48 p) fun q => sm_b (sm_th a q) fun r3 =>
  if r1 = r3 then some 0 else sm_b (sm_find v a b c r1 r3) fun r5 => if 0 ≤ r5 then some 0 else some 1
theorem sm_cf_ok {post : Int32 → Prop} {v f : Int32} {a b c : List Int32} {p r : Int32} (h : sm_cf v a b c p = some r) (hp : post r) : wpX_canFlip post (v, f, sm_g a, sm_g b, sm_g c) p := by
  unfold sm_cf at h
  obtain ⟨r1, h1, h⟩ := sm_b_i h
  obtain ⟨q, hq, h⟩ := sm_b_i h
  obtain ⟨r3, h3, h⟩ := sm_b_i h
  unfold wpX_canFlip
  refine sm_th_ok h1 ?_
  have t := sm_rd_i hq
  refine ⟨t.1, ?_⟩
  rw [t.2]
  refine sm_th_ok h3 ?_
  refine sm_j h (fun h => sm_s h hp) (fun h => ?_)
  obtain ⟨r5, h5, h⟩ := sm_b_i h
  refine sm_find_ok h5 ?_
  exact sm_j h (fun h => sm_s h hp) (fun h => sm_s h hp)
def sm_fl (v f : Int32) (a b c : List Int32) (p0 p1 : Int32) : Option (Int32 × sm_M) :=
  sm_b (sm_find v a b c p0 p1) fun r1 =>
  if 0 ≤ r1 then
    sm_b (sm_cf v a b c r1) fun r3 =>
    if r3 = 0 then some (-3, v, f, a, b, c) else
    sm_b (sm_rd b 48 r1) fun x4 =>
    sm_b (sm_th a r1) fun r7 =>
    sm_b (sm_th a x4) fun r8 =>
    sm_b (sm_rd b 48 (sm_nx r1)) fun x11 =>
    sm_b (sm_rd b 48 (sm_bf r1)) fun x12 =>
    sm_b (sm_rd b 48 (sm_nx x4)) fun x13 =>
    sm_b (sm_rd b 48 (sm_bf x4)) fun x14 =>
    sm_b (sm_wr a (r1 / 3) r7 p0 r8) fun a =>
    sm_b (sm_wr a (x4 / 3) r8 p1 r7) fun a =>
    sm_b (sm_lk b (3 * (r1 / 3)) x12) fun b =>
    sm_b (sm_lk b ((3 * (r1 / 3)) + 1) x13) fun b =>
    sm_b (sm_lk b ((3 * (r1 / 3)) + 2) ((3 * (x4 / 3)) + 2)) fun b =>
    sm_b (sm_lk b (3 * (x4 / 3)) x14) fun b =>
    sm_b (sm_lk b ((3 * (x4 / 3)) + 1) x11) fun b =>
    sm_b (sm_rf f a c) fun c =>
    some (0, v, f, a, b, c)
  else some (-1, v, f, a, b, c)
theorem sm_fl_ok {post : Int32 → St2 → Prop} {v f : Int32} {a b c : List Int32} {p0 p1 : Int32} {r v' f' : Int32} {a' b' c' : List Int32} (h : sm_fl v f a b c p0 p1 = some (r, v', f', a', b', c')) (hp : post r (v', f', sm_g a', sm_g b', sm_g c')) : wpX_flip post (v, f, sm_g a, sm_g b, sm_g c) p0 p1 := by
  have e : ∀ {x v1 f1 : Int32} {a1 b1 c1 : List Int32}, some (x, v1, f1, a1, b1, c1) = some (r, v', f', a', b', c') → post x (v1, f1, sm_g a1, sm_g b1, sm_g c1) := by
    intro x v1 f1 a1 b1 c1 z
    cases z
    exact hp
  unfold sm_fl at h
  obtain ⟨r1, h1, h⟩ := sm_b_i h
  unfold wpX_flip
  refine sm_find_ok h1 ?_
  refine sm_j h (fun h => ?_) (fun h => e h)
  obtain ⟨r3, h3, h⟩ := sm_b_i h
  refine sm_cf_ok h3 ?_
  refine sm_j h (fun h => e h) (fun h => ?_)
  obtain ⟨x4, h4, h⟩ := sm_b_i h
  refine ⟨(sm_rd_i h4).1, nm_r (sm_rd_i h4).2 ?_⟩
  obtain ⟨r7, h7, h⟩ := sm_b_i h
  refine sm_th_ok h7 ?_
  obtain ⟨r8, h8, h⟩ := sm_b_i h
  refine sm_th_ok h8 ?_
  refine sm_nx_ok ?_
  refine sm_bf_ok ?_
  refine sm_nx_ok ?_
  refine sm_bf_ok ?_
  obtain ⟨x11, h11, h⟩ := sm_b_i h
  obtain ⟨x12, h12, h⟩ := sm_b_i h
  obtain ⟨x13, h13, h⟩ := sm_b_i h
  obtain ⟨x14, h14, h⟩ := sm_b_i h
  refine ⟨(sm_rd_i h11).1, nm_r (sm_rd_i h11).2 ⟨(sm_rd_i h12).1, nm_r (sm_rd_i h12).2 ⟨(sm_rd_i h13).1, nm_r (sm_rd_i h13).2 ⟨(sm_rd_i h14).1, nm_r (sm_rd_i h14).2 ⟨sm_3, nm_e ⟨sm_3, nm_e ?_⟩⟩⟩⟩⟩⟩
  obtain ⟨a1, ha1, h⟩ := sm_b_i h
  refine sm_wr_ok ha1 ?_
  obtain ⟨a2, ha2, h⟩ := sm_b_i h
  refine sm_wr_ok ha2 ?_
  obtain ⟨b1, hb1, h⟩ := sm_b_i h
  refine sm_lk_ok hb1 ?_
  obtain ⟨b2, hb2, h⟩ := sm_b_i h
  refine sm_lk_ok hb2 ?_
  obtain ⟨b3, hb3, h⟩ := sm_b_i h
  refine sm_lk_ok hb3 ?_
  obtain ⟨b4, hb4, h⟩ := sm_b_i h
  refine sm_lk_ok hb4 ?_
  obtain ⟨b5, hb5, h⟩ := sm_b_i h
  refine sm_lk_ok hb5 ?_
  obtain ⟨c1, hc1, h⟩ := sm_b_i h
  refine sm_rf_ok hc1 ?_
  exact e h

/-! collapse -/
def sm_cc (v : Int32) (a b c : List Int32) (p q : Int32) : Option Int32 :=
  sm_b (sm_jt a b c p) fun r1 => sm_b (sm_jt a b c q) fun r2 => sm_b (sm_on v) fun r4 =>
  if r4 ≤ 4 then some 0 else sm_b (sm_on (r1 &&& r2)) fun r6 => if r6 = 2 then some 1 else some 0
theorem sm_cc_ok {post : Int32 → Prop} {v f : Int32} {a b c : List Int32} {p q r : Int32} (h : sm_cc v a b c p q = some r) (hp : post r) : wpX_canCollapse post (v, f, sm_g a, sm_g b, sm_g c) p q := by
  unfold sm_cc at h
  obtain ⟨r1, h1, h⟩ := sm_b_i h
  obtain ⟨r2, h2, h⟩ := sm_b_i h
  obtain ⟨r4, h4, h⟩ := sm_b_i h
  unfold wpX_canCollapse
  refine sm_jt_ok h1 ?_
  refine sm_jt_ok h2 (nm_e ?_)
  refine sm_on_ok h4 ?_
  refine sm_j h (fun h => sm_s h hp) (fun h => ?_)
  obtain ⟨r6, h6, h⟩ := sm_b_i h
  refine sm_on_ok h6 ?_
  exact sm_j h (fun h => sm_s h hp) (fun h => sm_s h hp)
/-- the loop that renames a vertex -/
def sm_rnL (x1 x2 : Int32) : Nat → Int32 → List Int32 → Option (List Int32)
  | 0 => fun _ _ => none
  | n + 1 => fun x a => if 48 ≤ x then some a else sm_b (sm_rd a 48 x) fun y =>
      if y = x2 then sm_b (sm_st a 48 x x1.toInt8.toInt32) fun a => sm_rnL x1 x2 n (x + 1) a
      else sm_b (sm_st a 48 x y.toInt8.toInt32) fun a => sm_rnL x1 x2 n (x + 1) a
theorem sm_rnL_ok {post : Int32 → St2 → Prop} {x1 x2 v f o : Int32} {a' b c c' : List Int32} (h1 : sm_rf f a' c = some c') (h2 : sm_on (v &&& (((1 : Int32) <<< (x2 &&& 31)) ^^^ (-1))) = some o)
    (hp : post o (v &&& (((1 : Int32) <<< (x2 &&& 31)) ^^^ (-1)), f, sm_g a', sm_g b, sm_g c')) : ∀ n x a, sm_rnL x1 x2 n x a = some a' → wX_collapse_137 post x1 x2 v f n x (sm_g a) (sm_g b) (sm_g c) := by
  intro n
  induction n with
  | zero =>
    intro x a h
    exact absurd h.symm (Option.some_ne_none a')
  | succ n ih =>
    intro x a h
    unfold sm_rnL at h
    refine sm_j h (fun h => ?_) (fun h => ?_)
    · cases h
      exact nm_e (sm_rf_ok h1 (sm_on_ok h2 hp))
    · obtain ⟨y, hy, h⟩ := sm_b_i h
      have t := sm_rd_i hy
      refine ⟨t.1, ?_⟩
      rw [t.2]
      refine sm_j h (fun h => ?_) (fun h => ?_)
      · obtain ⟨a1, ha, h⟩ := sm_b_i h
        exact ⟨t.1, nm_r (sm_st_i ha).2 (nm_e (ih _ _ h))⟩
      · obtain ⟨a1, ha, h⟩ := sm_b_i h
        rw [vp_nar_byte]
        exact ⟨t.1, t.1, nm_r (sm_st_i ha).2 (nm_e (ih _ _ h))⟩
def sm_cl (v f : Int32) (a b c : List Int32) (p0 p1 : Int32) : Option (Int32 × sm_M) :=
  sm_b (sm_find v a b c p0 p1) fun r1 =>
  if 0 ≤ r1 then
    sm_b (sm_cc v a b c p0 p1) fun r3 =>
    if r3 = 0 then some (-3, v, f, a, b, c) else
    sm_b (sm_rd b 48 r1) fun x4 =>
    sm_b (sm_rd b 48 (sm_nx r1)) fun x9 =>
    sm_b (sm_rd b 48 (sm_bf r1)) fun x10 =>
    sm_b (sm_rd b 48 (sm_nx x4)) fun x11 =>
    sm_b (sm_rd b 48 (sm_bf x4)) fun x12 =>
    sm_b (sm_lk b x9 x10) fun b =>
    sm_b (sm_lk b x11 x12) fun b =>
    sm_b (sm_rnL p0 p1 49 0 a) fun a =>
    sm_b (sm_rf (f &&& ((((1 : Int32) <<< ((r1 / 3) &&& 31)) ||| ((1 : Int32) <<< ((x4 / 3) &&& 31))) ^^^ (-1))) a c) fun c =>
    sm_b (sm_on (v &&& (((1 : Int32) <<< (p1 &&& 31)) ^^^ (-1)))) fun o =>
    some (o, v &&& (((1 : Int32) <<< (p1 &&& 31)) ^^^ (-1)), f &&& ((((1 : Int32) <<< ((r1 / 3) &&& 31)) ||| ((1 : Int32) <<< ((x4 / 3) &&& 31))) ^^^ (-1)), a, b, c)
  else some (-1, v, f, a, b, c)
theorem sm_cl_ok {post : Int32 → St2 → Prop} {v f : Int32} {a b c : List Int32} {p0 p1 : Int32} {r v' f' : Int32} {a' b' c' : List Int32} (h : sm_cl v f a b c p0 p1 = some (r, v', f', a', b', c')) (hp : post r (v', f', sm_g a', sm_g b', sm_g c')) : wpX_collapse post (v, f, sm_g a, sm_g b, sm_g c) p0 p1 := by
  have e : ∀ {x v1 f1 : Int32} {a1 b1 c1 : List Int32}, some (x, v1, f1, a1, b1, c1) = some (r, v', f', a', b', c') → post x (v1, f1, sm_g a1, sm_g b1, sm_g c1) := by
    intro x v1 f1 a1 b1 c1 z
    cases z
    exact hp
  unfold sm_cl at h
  obtain ⟨r1, h1, h⟩ := sm_b_i h
  unfold wpX_collapse
  refine sm_find_ok h1 ?_
  refine sm_j h (fun h => ?_) (fun h => e h)
  obtain ⟨r3, h3, h⟩ := sm_b_i h
  refine sm_cc_ok h3 ?_
  refine sm_j h (fun h => e h) (fun h => ?_)
  obtain ⟨x4, h4, h⟩ := sm_b_i h
  refine ⟨(sm_rd_i h4).1, nm_r (sm_rd_i h4).2 ?_⟩
  refine sm_nx_ok ?_
  refine sm_bf_ok ?_
  refine sm_nx_ok ?_
  refine sm_bf_ok ?_
  obtain ⟨x9, h9, h⟩ := sm_b_i h
  obtain ⟨x10, h10, h⟩ := sm_b_i h
  obtain ⟨x11, h11, h⟩ := sm_b_i h
  obtain ⟨x12, h12, h⟩ := sm_b_i h
  refine ⟨(sm_rd_i h9).1, nm_r (sm_rd_i h9).2 ⟨(sm_rd_i h10).1, nm_r (sm_rd_i h10).2 ⟨(sm_rd_i h11).1, nm_r (sm_rd_i h11).2 ⟨(sm_rd_i h12).1, nm_r (sm_rd_i h12).2 ⟨sm_3, sm_3, nm_e ?_⟩⟩⟩⟩⟩
  obtain ⟨b1, hb1, h⟩ := sm_b_i h
  refine sm_lk_ok hb1 ?_
  obtain ⟨b2, hb2, h⟩ := sm_b_i h
  refine sm_lk_ok hb2 ?_
  obtain ⟨a1, ha1, h⟩ := sm_b_i h
  obtain ⟨c1, hc1, h⟩ := sm_b_i h
  obtain ⟨o, ho, h⟩ := sm_b_i h
  exact ⟨49, sm_rnL_ok hc1 ho (e h) _ _ _ ha1⟩
end
section
/-! the constructor -/
def sm_in : Option sm_M :=
  sm_b (sm_wr (List.replicate 48 0) 0 0 1 2) fun a => sm_b (sm_wr a 1 0 2 3) fun a => sm_b (sm_wr a 2 0 3 1) fun a => sm_b (sm_wr a 3 1 3 2) fun a =>
  sm_b (sm_lk (List.replicate 48 0) 0 8) fun b => sm_b (sm_lk b 1 11) fun b => sm_b (sm_lk b 2 3) fun b => sm_b (sm_lk b 4 10) fun b => sm_b (sm_lk b 5 6) fun b => sm_b (sm_lk b 7 9) fun b =>
  sm_b (sm_rf 15 a (List.replicate 10 0)) fun c => some (15, 15, a, b, c)
theorem sm_in_ok {post : St2 → Prop} {mc ms : Nat} {u : St1} {v f : Int32} {a b c : List Int32} (hc : 3 ≤ mc) (hs : 106 ≤ ms) (h : sm_in = some (v, f, a, b, c)) (hp : post (v, f, sm_g a, sm_g b, sm_g c)) : wpX_init post mc ms u := by
  obtain ⟨u1, u2⟩ := u
  unfold sm_in at h
  obtain ⟨a1, ha1, h⟩ := sm_b_i h
  obtain ⟨a2, ha2, h⟩ := sm_b_i h
  obtain ⟨a3, ha3, h⟩ := sm_b_i h
  obtain ⟨a4, ha4, h⟩ := sm_b_i h
  obtain ⟨b1, hb1, h⟩ := sm_b_i h
  obtain ⟨b2, hb2, h⟩ := sm_b_i h
  obtain ⟨b3, hb3, h⟩ := sm_b_i h
  obtain ⟨b4, hb4, h⟩ := sm_b_i h
  obtain ⟨b5, hb5, h⟩ := sm_b_i h
  obtain ⟨b6, hb6, h⟩ := sm_b_i h
  obtain ⟨c1, hc1, h⟩ := sm_b_i h
  cases h
  unfold wpX_init
  refine ⟨by omega, by omega, by omega, by omega, by omega, by omega, ?_⟩
  have k : wpX_write (fun u => match u with | (v1, f1, x1, x2, x3) => wpX_write (fun u => match u with | (v1, f1, x1, x2, x3) => wpX_write (fun u => match u with | (v1, f1, x1, x2, x3) => wpX_write (fun u => match u with | (v1, f1, x1, x2, x3) => wpX_link (fun u => match u with | (v1, f1, x1, x2, x3) => wpX_link (fun u => match u with | (v1, f1, x1, x2, x3) => wpX_link (fun u => match u with | (v1, f1, x1, x2, x3) => wpX_link (fun u => match u with | (v1, f1, x1, x2, x3) => wpX_link (fun u => match u with | (v1, f1, x1, x2, x3) => wpX_link (fun u => match u with | (v1, f1, x1, x2, x3) => wpX_refresh (fun u => match u with | (v1, f1, x1, x2, x3) => post (v1, f1, x1, x2, x3)) (v1, f1, x1, x2, x3)) (v1, f1, x1, x2, x3) 7 9) (v1, f1, x1, x2, x3) 5 6) (v1, f1, x1, x2, x3) 4 10) (v1, f1, x1, x2, x3) 2 3) (v1, f1, x1, x2, x3) 1 11) (v1, f1, x1, x2, x3) 0 8) (v1, f1, x1, x2, x3) 3 1 3 2) (v1, f1, x1, x2, x3) 2 0 3 1) (v1, f1, x1, x2, x3) 1 0 2 3) (15, 15, sm_g (List.replicate 48 0), sm_g (List.replicate 48 0), sm_g (List.replicate 10 0)) 0 0 1 2 := by
    refine sm_wr_ok ha1 ?_
    refine sm_wr_ok ha2 ?_
    refine sm_wr_ok ha3 ?_
    refine sm_wr_ok ha4 ?_
    refine sm_lk_ok hb1 ?_
    refine sm_lk_ok hb2 ?_
    refine sm_lk_ok hb3 ?_
    refine sm_lk_ok hb4 ?_
    refine sm_lk_ok hb5 ?_
    refine sm_lk_ok hb6 ?_
    refine sm_rf_ok hc1 ?_
    exact hp
  rw [← sm_0 48, ← sm_0 10] at k
  exact k

/-! the law's last checks -/
def sm_369 (z0 z1 : Int32) : Int32 := if z1 = z0 then 1 else 0
theorem sm_369_ok {post : Int32 → St0 → Prop} {mc ms kc ks : Nat} {z0 z1 : Int32} (h : post (sm_369 z0 z1) ()) : wL_lawOf_369 post mc ms z0 z1 kc ks := by
  unfold sm_369 at h
  exact sm_k h id id
def sm_344 (x9 x14 z0 z1 : Int32) : Int32 := if z1 = z0 then (if x9 = 0 then sm_369 3 x14 else if x9 = 3 then sm_369 3 x14 else sm_369 0 x14) else 0
theorem sm_344_ok {post : Int32 → St0 → Prop} {mc ms kc ks : Nat} {x9 x14 z0 z1 : Int32} (h : post (sm_344 x9 x14 z0 z1) ()) : wL_lawOf_344 post mc ms x9 x14 z0 z1 kc ks := by
  unfold sm_344 at h
  exact sm_k h (fun h => sm_k h sm_369_ok (fun h => sm_k h sm_369_ok sm_369_ok)) id
def sm_309 (x4 x9 x13 x14 x15 z0 z1 : Int32) : Int32 :=
  if z1 = z0 then (if x15 = 0 then (if x9 = 2 then sm_344 x9 x14 (31 &&& (((1 : Int32) <<< (x4 &&& 31)) ^^^ (-1))) x13 else sm_344 x9 x14 31 x13) else sm_344 x9 x14 15 x13) else 0
theorem sm_309_ok {post : Int32 → St0 → Prop} {mc ms kc ks : Nat} {x4 x9 x13 x14 x15 z0 z1 : Int32} (h : post (sm_309 x4 x9 x13 x14 x15 z0 z1) ()) : wL_lawOf_309 post mc ms x4 x9 x13 x14 x15 z0 z1 kc ks := by
  unfold sm_309 at h
  exact sm_k h (fun h => sm_k h (fun h => sm_k h sm_344_ok sm_344_ok) sm_344_ok) id
def sm_258 (x4 x7 x9 x12 x13 x14 x15 z0 z1 : Int32) : Int32 :=
  if z1 = z0 then (if x15 = 0 then (if x9 = 0 then sm_309 x4 x9 x13 x14 x15 15 x12 else if x9 = 2 then sm_309 x4 x9 x13 x14 x15 (15 &&& (((1 : Int32) <<< (x4 &&& 31)) ^^^ (-1))) x12 else sm_309 x4 x9 x13 x14 x15 (15 &&& (((1 : Int32) <<< (x7 &&& 31)) ^^^ (-1))) x12) else sm_309 x4 x9 x13 x14 x15 0 x12) else 0
theorem sm_258_ok {post : Int32 → St0 → Prop} {mc ms kc ks : Nat} {x4 x7 x9 x12 x13 x14 x15 z0 z1 : Int32} (h : post (sm_258 x4 x7 x9 x12 x13 x14 x15 z0 z1) ()) : wL_lawOf_258 post mc ms x4 x7 x9 x12 x13 x14 x15 z0 z1 kc ks := by
  unfold sm_258 at h
  exact sm_k h (fun h => sm_k h (fun h => sm_k h sm_309_ok (fun h => sm_k h sm_309_ok sm_309_ok)) sm_309_ok) id
def sm_236 (x4 x7 x9 x11 x12 x13 x14 x15 z0 z1 : Int32) : Int32 :=
  if z1 = z0 then (if x9 = 0 then sm_258 x4 x7 x9 x12 x13 x14 x15 6 x11 else if x9 = 3 then sm_258 x4 x7 x9 x12 x13 x14 x15 6 x11 else sm_258 x4 x7 x9 x12 x13 x14 x15 4 x11) else 0
theorem sm_236_ok {post : Int32 → St0 → Prop} {mc ms kc ks : Nat} {x4 x7 x9 x11 x12 x13 x14 x15 z0 z1 : Int32} (h : post (sm_236 x4 x7 x9 x11 x12 x13 x14 x15 z0 z1) ()) : wL_lawOf_236 post mc ms x4 x7 x9 x11 x12 x13 x14 x15 z0 z1 kc ks := by
  have e : post (sm_258 x4 x7 x9 x12 x13 x14 x15 6 x11) () → wL_lawOf_252 post mc ms x4 x7 x9 x12 x13 x14 x15 x11 kc ks := by
    intro h
    unfold wL_lawOf_252
    exact sm_258_ok h
  unfold sm_236 at h
  exact sm_k h (fun h => sm_k h e (fun h => sm_k h e sm_258_ok)) id
def sm_206 (x4 x7 x8 x9 x10 x11 x12 x13 x14 z0 : Int32) : Int32 :=
  if x8 = 4 then (if x9 = 0 then sm_236 x4 x7 x9 x11 x12 x13 x14 z0 0 x10 else if x9 = 3 then sm_236 x4 x7 x9 x11 x12 x13 x14 z0 (-1) x10 else sm_236 x4 x7 x9 x11 x12 x13 x14 z0 4 x10) else 0
theorem sm_206_ok {post : Int32 → St0 → Prop} {mc ms kc ks : Nat} {x4 x7 x8 x9 x10 x11 x12 x13 x14 z0 : Int32} (h : post (sm_206 x4 x7 x8 x9 x10 x11 x12 x13 x14 z0) ()) : wL_lawOf_206 post mc ms x4 x7 x8 x9 x10 x11 x12 x13 x14 z0 kc ks := by
  unfold sm_206 at h
  exact sm_k h (fun h => sm_k h sm_236_ok (fun h => sm_k h sm_236_ok sm_236_ok)) id
def sm_166 (x4 x7 x8 x9 z0 : Int32) (m : sm_M) : Option Int32 :=
  match m with
  | (v, f, a, b, c) => sm_b (sm_on f) fun r57 => sm_b (sm_jd v a b c x8) fun r58 => sm_b (sm_dg v a b c 4) fun r60 =>
    some (if x9 = 1 then sm_206 x4 x7 x8 x9 z0 r57 r58 v r60 1 else sm_206 x4 x7 x8 x9 z0 r57 r58 v r60 0)
theorem sm_166_ok {post : Int32 → St0 → Prop} {mc ms kc ks : Nat} {x4 x7 x8 x9 z0 v f r : Int32} {a b c : List Int32} (h : sm_166 x4 x7 x8 x9 z0 (v, f, a, b, c) = some r) (hp : post r ()) : wL_lawOf_166 post mc ms x4 x7 x8 x9 z0 kc ks v f (sm_g a) (sm_g b) (sm_g c) := by
  unfold sm_166 at h
  obtain ⟨r57, h57, h⟩ := sm_b_i h
  obtain ⟨r58, h58, h⟩ := sm_b_i h
  obtain ⟨r60, h60, h⟩ := sm_b_i h
  cases h
  unfold wL_lawOf_166 wpX_faces
  refine sm_on_ok h57 ?_
  refine sm_jd_ok h58 ?_
  unfold wpX_vertices
  refine sm_dg_ok h60 ?_
  exact sm_k hp sm_206_ok sm_206_ok
def sm_74 (x9 x4 x5 z0 : Int32) (m : sm_M) : Option Int32 :=
  match m with
  | (v, f, a, b, c) => sm_b (sm_sf v f a b c x4 x5 z0) fun s => match s with
    | (r, v, f, a, b, c) =>
      if x9 = 0 then sm_b (sm_fl v f a b c x4 x5) fun s => sm_166 x4 (((6 - x4) - x5) - z0) r x9 s.1 s.2 else
      if x9 = 1 then sm_b (sm_cl v f a b c x4 r) fun s => sm_166 x4 (((6 - x4) - x5) - z0) r x9 s.1 s.2 else
      if x9 = 2 then sm_b (sm_cl v f a b c r x4) fun s => sm_166 x4 (((6 - x4) - x5) - z0) r x9 s.1 s.2 else
      sm_b (sm_sf v f a b c x5 x4 r) fun s => sm_166 x4 (((6 - x4) - x5) - z0) r x9 s.1 s.2
theorem sm_74_ok {post : Int32 → St0 → Prop} {mc ms kc ks : Nat} {x1 x9 x4 x5 z0 v f r : Int32} {a b c : List Int32} (hx : x1 &&& 3 = x9) (h : sm_74 x9 x4 x5 z0 (v, f, a, b, c) = some r) (hp : post r ()) : wL_lawOf_74 post mc ms x1 x4 x5 z0 kc ks v f (sm_g a) (sm_g b) (sm_g c) := by
  unfold sm_74 at h
  obtain ⟨⟨r1, v1, f1, a1, b1, c1⟩, h1, h⟩ := sm_b_i h
  unfold wL_lawOf_74
  refine nm_e ?_
  refine sm_sf_ok h1 ?_
  refine nm_r hx ?_
  refine sm_j h (fun h => ?_) (fun h => ?_)
  · obtain ⟨⟨r2, v2, f2, a2, b2, c2⟩, h2, h⟩ := sm_b_i h
    exact sm_fl_ok h2 (sm_166_ok h hp)
  refine sm_j h (fun h => ?_) (fun h => ?_)
  · obtain ⟨⟨r2, v2, f2, a2, b2, c2⟩, h2, h⟩ := sm_b_i h
    exact sm_cl_ok h2 (sm_166_ok h hp)
  refine sm_j h (fun h => ?_) (fun h => ?_)
  · obtain ⟨⟨r2, v2, f2, a2, b2, c2⟩, h2, h⟩ := sm_b_i h
    exact sm_cl_ok h2 (sm_166_ok h hp)
  · obtain ⟨⟨r2, v2, f2, a2, b2, c2⟩, h2, h⟩ := sm_b_i h
    exact sm_sf_ok h2 (sm_166_ok h hp)
def sm_45 (x9 x3 x4 z0 : Int32) (m : sm_M) : Option Int32 :=
  if x3 = 0 then sm_74 x9 x4 z0 2 m else if x3 = 1 then sm_74 x9 x4 z0 3 m else if x3 = 2 then sm_74 x9 x4 z0 1 m else sm_74 x9 x4 z0 2 m
theorem sm_45_ok {post : Int32 → St0 → Prop} {mc ms kc ks : Nat} {x1 x9 x3 x4 z0 v f r : Int32} {a b c : List Int32} (hx : x1 &&& 3 = x9) (h : sm_45 x9 x3 x4 z0 (v, f, a, b, c) = some r) (hp : post r ()) : wL_lawOf_45 post mc ms x1 x3 x4 z0 kc ks v f (sm_g a) (sm_g b) (sm_g c) := by
  unfold sm_45 at h
  exact sm_j h (fun h => sm_74_ok hx h hp) (fun h => sm_j h (fun h => sm_74_ok hx h hp) (fun h => sm_j h (fun h => sm_74_ok hx h hp) (fun h => sm_74_ok hx h hp)))
def sm_25 (x9 x3 z0 : Int32) (m : sm_M) : Option Int32 :=
  if x3 = 0 then sm_45 x9 x3 z0 1 m else if x3 = 1 then sm_45 x9 x3 z0 2 m else sm_45 x9 x3 z0 3 m
theorem sm_25_ok {post : Int32 → St0 → Prop} {mc ms kc ks : Nat} {x1 x9 x3 z0 v f r : Int32} {a b c : List Int32} (hx : x1 &&& 3 = x9) (h : sm_25 x9 x3 z0 (v, f, a, b, c) = some r) (hp : post r ()) : wL_lawOf_25 post mc ms x1 x3 z0 kc ks v f (sm_g a) (sm_g b) (sm_g c) := by
  unfold sm_25 at h
  exact sm_j h (fun h => sm_45_ok hx h hp) (fun h => sm_j h (fun h => sm_45_ok hx h hp) (fun h => sm_45_ok hx h hp))
/-- a whole run -/
def sm_run (x9 x3 : Int32) (m : sm_M) : Option Int32 := if x3 = 3 then sm_25 x9 x3 1 m else sm_25 x9 x3 0 m
end
section
/-! the 16 runs, evaluated -/
def sm_S0 : sm_M := (15, 15, [0, 1, 2, 0, 2, 3, 0, 3, 1, 1, 3, 2, 0, 0, 0, 0, 0, 0, 0, 0, 0, 0, 0, 0, 0, 0, 0, 0, 0, 0, 0, 0, 0, 0, 0, 0, 0, 0, 0, 0, 0, 0, 0, 0, 0, 0, 0, 0], [8, 11, 3, 2, 10, 6, 5, 9, 0, 7, 4, 1, 0, 0, 0, 0, 0, 0, 0, 0, 0, 0, 0, 0, 0, 0, 0, 0, 0, 0, 0, 0, 0, 0, 0, 0, 0, 0, 0, 0, 0, 0, 0, 0, 0, 0, 0, 0], [6, 9, 11, 10, 0, 0, 0, 0, 0, 0])
theorem sm_S0_in : sm_in = some sm_S0 := by decide +kernel
theorem sm_r00 : sm_run 0 0 sm_S0 = some 1 := by decide +kernel
theorem sm_r01 : sm_run 1 0 sm_S0 = some 1 := by decide +kernel
theorem sm_r02 : sm_run 2 0 sm_S0 = some 1 := by decide +kernel
theorem sm_r03 : sm_run 3 0 sm_S0 = some 1 := by decide +kernel
theorem sm_r10 : sm_run 0 1 sm_S0 = some 1 := by decide +kernel
theorem sm_r11 : sm_run 1 1 sm_S0 = some 1 := by decide +kernel
theorem sm_r12 : sm_run 2 1 sm_S0 = some 1 := by decide +kernel
theorem sm_r13 : sm_run 3 1 sm_S0 = some 1 := by decide +kernel
theorem sm_r20 : sm_run 0 2 sm_S0 = some 1 := by decide +kernel
theorem sm_r21 : sm_run 1 2 sm_S0 = some 1 := by decide +kernel
theorem sm_r22 : sm_run 2 2 sm_S0 = some 1 := by decide +kernel
theorem sm_r23 : sm_run 3 2 sm_S0 = some 1 := by decide +kernel
theorem sm_r30 : sm_run 0 3 sm_S0 = some 1 := by decide +kernel
theorem sm_r31 : sm_run 1 3 sm_S0 = some 1 := by decide +kernel
theorem sm_r32 : sm_run 2 3 sm_S0 = some 1 := by decide +kernel
theorem sm_r33 : sm_run 3 3 sm_S0 = some 1 := by decide +kernel
end
section
theorem sm_all {x3 x9 : Int32} {i j : Nat} (hi : i < 4) (hj : j < 4) (h3 : x3 = nI i) (h9 : x9 = nI j) : sm_run x9 x3 sm_S0 = some 1 := by
  rw [h3, h9]
  exact co_4 (P := fun i => sm_run (nI j) (nI i) sm_S0 = some 1) (co_4 (P := fun j => sm_run (nI j) (nI 0) sm_S0 = some 1) sm_r00 sm_r01 sm_r02 sm_r03 hj)
    (co_4 (P := fun j => sm_run (nI j) (nI 1) sm_S0 = some 1) sm_r10 sm_r11 sm_r12 sm_r13 hj)
    (co_4 (P := fun j => sm_run (nI j) (nI 2) sm_S0 = some 1) sm_r20 sm_r21 sm_r22 sm_r23 hj)
    (co_4 (P := fun j => sm_run (nI j) (nI 3) sm_S0 = some 1) sm_r30 sm_r31 sm_r32 sm_r33 hj) hi
theorem sm_lawOf {post : Int32 → St0 → Prop} {p0 p1 : Int32} (hp : post 1 ()) : wpL_lawOf post 24 384 () p0 p1 := by
  obtain ⟨k, hk, ek⟩ := pk_andE p0 (m := 65535) 16 (by decide)
  obtain ⟨j, hj, ej⟩ := pk_andE p1 (m := 3) 2 (by decide)
  have e3 : (p0 &&& 65535) - (p0 &&& 65535) / 4 * 4 = nI (k % 4) := by
    rw [ek]
    exact pk_rem (d := 4) (by omega) (by decide) (by decide)
  unfold wpL_lawOf
  refine ⟨by decide, by decide, 3, 106, by decide, by decide, ?_⟩
  refine sm_in_ok (by decide) (by decide) sm_S0_in ?_
  refine ⟨sm_4, nm_r e3 ?_⟩
  have h : sm_run (nI j) (nI (k % 4)) sm_S0 = some 1 := sm_all (Nat.mod_lt k (by decide)) hj rfl rfl
  unfold sm_run at h
  exact sm_j h (fun h => sm_25_ok ej h hp) (fun h => sm_25_ok ej h hp)
theorem sm_cell {post : Int32 → Prop} {L : Nat} {xs : Nat → Int32} {u : St0} {p : Int32} (k : Nat) (hL : L ≤ 2) (hk : k < 2) (e : p = nI k) (h : ∀ r, post r) : wpL_cellAt post L xs u p := by
  rw [e]
  exact br_c (fun _ => h _) (fun z => ⟨vp_in_nI (Nat.lt_of_not_le (fun g => z (nI_le g (by omega)))) (by omega), h _⟩)
theorem i_vc (xs : Nat → Int32) (L : Nat) (hL : L ≤ 2) : wpL_law (fun r => r = 1) L xs := by
  unfold wpL_law
  refine sm_cell 0 hL (by decide) rfl (fun r1 => ?_)
  refine sm_cell 1 hL (by decide) rfl (fun r2 => ?_)
  exact ⟨24, 384, by decide, by decide, sm_lawOf rfl⟩
end
