section
section
variable {c k : Int64} {a1 a2 a3 a4 a5 a6 : Nat → Int32} {a7 : Nat → Int64} {a8 a9 a10 a11 a12 : Nat → Int32} {t : Nat}
/-- t is open, alone, at level 0 with the number 1, nothing overtaken -/
def mh_O (t : Nat) (a6 : Nat → Int32) (a7 : Nat → Int64) (a8 a9 a11 : Nat → Int32) : Prop :=
  a6 t = 1 ∧ (∀ u, u < 4 → u ≠ t → a6 u = 0) ∧ a7 t = 0 ∧ a8 t = 0 ∧ a9 (t * 4) = 1 ∧ a11 t = 0
/-- version 0 is the row r's, made by the number 1, not ended -/
def mh_V (r : Int32) (a1 a2 a4 a5 : Nat → Int32) : Prop := a1 0 = 1 ∧ a2 0 = r ∧ a4 0 = 1 ∧ a5 0 = 0
theorem mh_ref0 {post : Int32 → Prop} (ht : t < 4) (h : a6 t = 0) (hp : post (-2)) : wpX_refused post (c, k, a1, a2, a3, a4, a5, a6, a7, a8, a9, a10, a11, a12) (nI t) :=
  br_f (nI_pos (by omega)) (br_t (nI_lt (b := 4) ht (by decide)) ⟨vp_in_nI ht (by decide), br_t (by rw [nI_clamp (by omega)]; exact h) hp⟩)
theorem mh_ref1 {post : Int32 → Prop} (ht : t < 4) (h : a6 t = 1) (hp : post 0) : wpX_refused post (c, k, a1, a2, a3, a4, a5, a6, a7, a8, a9, a10, a11, a12) (nI t) :=
  br_f (nI_pos (by omega)) (br_t (nI_lt (b := 4) ht (by decide)) ⟨vp_in_nI ht (by decide), br_f (by rw [nI_clamp (by omega), h]; decide) hp⟩)
theorem mh_refN {post : Int32 → Prop} {x : Int32} (hx : x < 0 ∨ ¬ x < 4) (hp : post (-1)) : wpX_refused post (c, k, a1, a2, a3, a4, a5, a6, a7, a8, a9, a10, a11, a12) x :=
  br_c (fun _ => hp) (fun h => br_f (hx.resolve_left h) hp)
theorem mh_rowN {post : Int32 → Prop} {x r : Int32} (hx : x < 0 ∨ ¬ x < 4) (hp : post (-1)) : wpX_refusedRow post (c, k, a1, a2, a3, a4, a5, a6, a7, a8, a9, a10, a11, a12) x r := by
  unfold wpX_refusedRow
  refine mh_refN hx ?_
  exact br_f (by decide) hp
theorem mh_rowR {post : Int32 → Prop} {r : Int32} (ht : t < 4) (h : a6 t = 1) (hr : r < 0 ∨ ¬ r < 8) (hp : post (-1)) : wpX_refusedRow post (c, k, a1, a2, a3, a4, a5, a6, a7, a8, a9, a10, a11, a12) (nI t) r := by
  unfold wpX_refusedRow
  refine mh_ref1 ht h ?_
  exact br_t (by decide) (br_c (fun _ => hp) (fun g => br_f (hr.resolve_left g) hp))
theorem mh_row {post : Int32 → Prop} {r : Nat} (ht : t < 4) (h : a6 t = 1) (hr : r < 8) (hp : post 0) : wpX_refusedRow post (c, k, a1, a2, a3, a4, a5, a6, a7, a8, a9, a10, a11, a12) (nI t) (nI r) := by
  unfold wpX_refusedRow
  refine mh_ref1 ht h ?_
  exact br_t (by decide) (br_f (nI_pos (by omega)) (br_t (nI_lt (b := 8) hr (by decide)) hp))
theorem mh_vf0 {post : Int32 → Prop} {s : Int64} {r : Int32} (h : ∀ j, j < 96 → a1 j = 0) (hp : post (-1)) : wpX_versionFor post (c, k, a1, a2, a3, a4, a5, a6, a7, a8, a9, a10, a11, a12) s r :=
  pk_loop (σ := Unit) (fun n i _ => wX_versionFor_3 post s r c k a1 a2 a3 a4 a5 a6 a7 a8 a9 a10 a11 a12 n (nI i)) (fun _ _ => True) 96 0 () (by omega) trivial
    (fun n _ _ => pk_le 96 96 (fun _ => hp) (fun z => absurd z (by omega)))
    (fun n i _ hi _ hw => pk_le 96 i (fun z => absurd z (by omega)) (fun _ => ⟨pk_in i 96 hi, br_t (by rw [nI_clamp (by omega)]; exact h i hi) (nm_r (nI_1 i) (hw () trivial))⟩))
theorem mh_in2 {post : Int32 → Prop} (hp : post 1) : wpX_in post (c, k, a1, a2, a3, a4, a5, a6, a7, a8, a9, a10, a11, a12) 2 1 :=
  br_f (by decide) (br_t (by decide) hp)
theorem mh_sees {post : Int32 → Prop} (h4 : a4 0 = 1) (h5 : a5 0 = 0) (hp : post 1) : wpX_sees post (c, k, a1, a2, a3, a4, a5, a6, a7, a8, a9, a10, a11, a12) 2 0 := by
  unfold wpX_sees
  try dsimp only
  refine ⟨pk_in 0 96 (by omega), ?_⟩
  rw [sb_cl0, h4]
  refine mh_in2 ?_
  exact br_f (by decide) ⟨pk_in 0 96 (by omega), br_t h5 hp⟩
theorem mh_vf1 {post : Int32 → Prop} {s : Int64} {r : Int32} (hs : s = 2) (h : mh_V r a1 a2 a4 a5) (hp : post 0) : wpX_versionFor post (c, k, a1, a2, a3, a4, a5, a6, a7, a8, a9, a10, a11, a12) s r := by
  obtain ⟨h1, h2, h4, h5⟩ := h
  subst hs
  refine ⟨1, ?_⟩
  refine br_f (by decide) ⟨pk_in 0 96 (by omega), br_f ?_ ⟨pk_in 0 96 (by omega), br_t ?_ (mh_sees h4 h5 ?_)⟩⟩
  · rw [sb_cl0, h1]; decide
  · rw [sb_cl0]; exact h2
  · exact br_f (by decide) hp
theorem mh_t4 (t : Nat) : nI t * 4 = nI (t * 4) := pk_mul t 4
theorem mh_t40 (t : Nat) : nI t * 4 + 0 = nI (t * 4) := by
  rw [mh_t4]
  exact nI_add (t * 4) 0
theorem mh_own {post : Int64 → Prop} (ht : t < 4) (h8 : a8 t = 0) (h9 : a9 (t * 4) = 1) (hp : post 2) : wpX_ownSet post (c, k, a1, a2, a3, a4, a5, a6, a7, a8, a9, a10, a11, a12) (nI t) := by
  have ct : (nI t).toNatClampNeg = t := nI_clamp (by omega)
  have c4 : (nI t * 4 + 0).toNatClampNeg = t * 4 := by rw [mh_t40]; exact nI_clamp (by omega)
  refine ⟨2, ?_⟩
  refine ⟨pk_in t 4 ht, br_f (by rw [ct, h8]; decide) ⟨pk_in (t * 4) 16 (by omega) (mh_t40 t), ?_⟩⟩
  rw [c4, h9]
  refine nm_r (e' := 2) (by decide) (nm_r (e' := 1) (by decide) ?_)
  exact ⟨pk_in t 4 ht, br_t (by rw [ct, h8]; decide) hp⟩
theorem mh_chg {post : Int32 → Prop} (ht : t < 4) (h8 : a8 t = 0) (hp : post (0 ||| a10 (t * 4))) : wpX_changedBy post (c, k, a1, a2, a3, a4, a5, a6, a7, a8, a9, a10, a11, a12) (nI t) := by
  have ct : (nI t).toNatClampNeg = t := nI_clamp (by omega)
  have c4 : (nI t * 4 + 0).toNatClampNeg = t * 4 := by rw [mh_t40]; exact nI_clamp (by omega)
  refine ⟨2, ?_⟩
  refine ⟨pk_in t 4 ht, br_f (by rw [ct, h8]; decide) ⟨pk_in (t * 4) 16 (by omega) (mh_t40 t), ?_⟩⟩
  refine nm_r (by rw [c4]) (nm_r (e' := 1) (by decide) ?_)
  exact ⟨pk_in t 4 ht, br_t (by rw [ct, h8]; decide) hp⟩
theorem mh_vo0 {post : Int32 → Prop} {r : Int32} (ht : t < 4) (hO : mh_O t a6 a7 a8 a9 a11) (h : ∀ j, j < 96 → a1 j = 0) (hp : post (-1)) : wpX_versionOf post (c, k, a1, a2, a3, a4, a5, a6, a7, a8, a9, a10, a11, a12) (nI t) r := by
  unfold wpX_versionOf
  exact mh_own ht hO.2.2.2.1 hO.2.2.2.2.1 ⟨pk_in t 4 ht, mh_vf0 h hp⟩
theorem mh_vo1 {post : Int32 → Prop} {r : Int32} (ht : t < 4) (hO : mh_O t a6 a7 a8 a9 a11) (h : mh_V r a1 a2 a4 a5) (hp : post 0) : wpX_versionOf post (c, k, a1, a2, a3, a4, a5, a6, a7, a8, a9, a10, a11, a12) (nI t) r := by
  unfold wpX_versionOf
  refine mh_own ht hO.2.2.2.1 hO.2.2.2.2.1 ⟨pk_in t 4 ht, mh_vf1 ?_ h hp⟩
  rw [nI_clamp (by omega), hO.2.2.1]
  decide
theorem mh_s0 : ∀ r, r < 8 → ¬ ((0 : Int32) >>> (nI r &&& 31)) &&& 1 = 1 := by decide +kernel
theorem mh_blk {post : Int32 → Prop} {r : Nat} (ht : t < 4) (hr : r < 8) (hO : mh_O t a6 a7 a8 a9 a11) (hp : post 0) : wpX_blocked post (c, k, a1, a2, a3, a4, a5, a6, a7, a8, a9, a10, a11, a12) (nI t) (nI r) :=
  pk_loop (σ := Unit) (fun n i _ => wX_blocked_2 post (nI t) (nI r) c k a1 a2 a3 a4 a5 a6 a7 a8 a9 a10 a11 a12 n (nI i)) (fun _ _ => True) 4 0 () (by omega) trivial
    (fun n _ _ => pk_le 4 4 (fun _ => ⟨pk_in t 4 ht, br_f (by rw [nI_clamp (by omega), hO.2.2.2.2.2]; exact mh_s0 r hr) hp⟩) (fun z => absurd z (by omega)))
    (fun n i _ hi _ hw => pk_le 4 i (fun z => absurd z (by omega)) (fun _ => pk_eq i t (fun _ => nm_r (nI_1 i) (hw () trivial)) (fun z => ⟨pk_in i 4 hi, br_t (by rw [nI_clamp (by omega)]; exact hO.2.1 i hi z) (nm_r (nI_1 i) (hw () trivial))⟩)))
theorem mh_fn {post : Int32 → Prop} (h : ∀ j, j < 96 → a1 j = 0) (hp : post 1) : wpX_freeNumber post (0, 0, a1, a2, a3, a4, a5, a6, a7, a8, a9, a10, a11, a12) := by
  unfold wpX_freeNumber
  try dsimp only
  refine nm_r (e' := 0) (by decide) ?_
  refine pk_loop (σ := Unit) (fun n i _ => wX_freeNumber_12 post 0 0 a1 a2 a3 a4 a5 a6 a7 a8 a9 a10 a11 a12 n 0 (nI i)) (fun _ _ => True) 96 0 () (by omega) trivial
    (fun n _ _ => pk_le 96 96 (fun _ => ⟨1, ?_⟩) (fun z => absurd z (by omega)))
    (fun n i _ hi _ hw => pk_le 96 i (fun z => absurd z (by omega)) (fun _ => ⟨pk_in i 96 hi, br_t (by rw [nI_clamp (by omega)]; exact h i hi) (nm_r (nI_1 i) (hw () trivial))⟩))
  exact br_f (by decide) (br_t (by decide) hp)
theorem mh_nn {post : Int32 → St2 → Prop} (h : ∀ j, j < 96 → a1 j = 0) (hp : post 1 (0, 2, a1, a2, a3, a4, a5, a6, a7, a8, a9, a10, a11, a12)) : wpX_newNumber post (0, 0, a1, a2, a3, a4, a5, a6, a7, a8, a9, a10, a11, a12) := by
  unfold wpX_newNumber
  try dsimp only
  refine mh_fn h ?_
  refine br_f (by decide) ?_
  exact nm_r (e' := 2) (by decide) hp
theorem mh_fv {post : Int32 → Prop} (h : a1 0 = 0) (hp : post 0) : wpX_freeVersion post (c, k, a1, a2, a3, a4, a5, a6, a7, a8, a9, a10, a11, a12) :=
  ⟨1, br_f (by decide) ⟨pk_in 0 96 (by omega), br_t (by rw [sb_cl0]; exact h) hp⟩⟩
theorem mh_mk {post : St2 → Prop} {r x n : Int32} (h : a1 0 = 0) (hp : post (c, k, upd a1 0 1, upd a2 0 r, upd a3 0 x, upd a4 0 n, upd a5 0 0, a6, a7, a8, a9, a10, a11, a12)) : wpX_makeVersion post (c, k, a1, a2, a3, a4, a5, a6, a7, a8, a9, a10, a11, a12) r x n := by
  unfold wpX_makeVersion
  try dsimp only
  refine mh_fv h ?_
  refine br_t (by decide) ?_
  have i0 : vp_in 0 96 := pk_in 0 96 (by omega)
  exact ⟨i0, nm_e ⟨i0, nm_e ⟨i0, nm_e ⟨i0, nm_e ⟨i0, nm_e hp⟩⟩⟩⟩⟩
theorem mh_cur {post : Int32 → Prop} (ht : t < 4) (h8 : a8 t = 0) (hp : post (nI (t * 4))) : wpX_current post (c, k, a1, a2, a3, a4, a5, a6, a7, a8, a9, a10, a11, a12) (nI t) := by
  unfold wpX_current
  try dsimp only
  refine ⟨pk_in t 4 ht, ?_⟩
  rw [nI_clamp (by omega), h8, mh_t40]
  exact hp
theorem mh_wr0 {post : St2 → Prop} {r x : Int32} (ht : t < 4) (hO : mh_O t a6 a7 a8 a9 a11) (h1 : a1 0 = 0)
    (hp : post (c, k, upd a1 0 1, upd a2 0 r, upd a3 0 x, upd a4 0 1, upd a5 0 0, a6, a7, a8, a9, upd a10 (t * 4) (a10 (t * 4) ||| ((1 : Int32) <<< (r &&& 31))), a11, a12)) :
    wpX_write post (c, k, a1, a2, a3, a4, a5, a6, a7, a8, a9, a10, a11, a12) (nI t) r (-1) x := by
  have h8 := hO.2.2.2.1
  have c4 : (nI (t * 4)).toNatClampNeg = t * 4 := nI_clamp (by omega)
  have i4 : vp_in (nI (t * 4)) 16 := pk_in (t * 4) 16 (by omega)
  unfold wpX_write
  try dsimp only
  refine mh_cur ht h8 ⟨i4, nm_r (e' := 1) (by rw [c4]; exact hO.2.2.2.2.1) (mh_cur ht h8 (mh_cur ht h8 ⟨i4, i4, ?_⟩))⟩
  rw [c4]
  refine nm_e (br_t (by decide) (br_t (by decide) ?_))
  exact mh_mk h1 hp
theorem mh_wr1 {post : St2 → Prop} {r x : Int32} (ht : t < 4) (hO : mh_O t a6 a7 a8 a9 a11) (h4 : a4 0 = 1)
    (hp : post (c, k, a1, a2, upd a3 0 x, a4, a5, a6, a7, a8, a9, upd a10 (t * 4) (a10 (t * 4) ||| ((1 : Int32) <<< (r &&& 31))), a11, a12)) :
    wpX_write post (c, k, a1, a2, a3, a4, a5, a6, a7, a8, a9, a10, a11, a12) (nI t) r 0 x := by
  have h8 := hO.2.2.2.1
  have c4 : (nI (t * 4)).toNatClampNeg = t * 4 := nI_clamp (by omega)
  have i4 : vp_in (nI (t * 4)) 16 := pk_in (t * 4) 16 (by omega)
  have i0 : vp_in 0 96 := pk_in 0 96 (by omega)
  unfold wpX_write
  try dsimp only
  refine mh_cur ht h8 ⟨i4, nm_r (e' := 1) (by rw [c4]; exact hO.2.2.2.2.1) (mh_cur ht h8 (mh_cur ht h8 ⟨i4, i4, ?_⟩))⟩
  rw [c4]
  refine nm_e (br_f (by decide) ⟨i0, br_t (by rw [sb_cl0]; exact h4) ⟨i0, nm_e ?_⟩⟩)
  exact hp
/-- how many of the first i bits are set -/
def mh_cnt (x : Int32) : Nat → Int32
  | 0 => 0
  | i + 1 => mh_cnt x i + ((x >>> (nI i &&& 31)) &&& 1)
theorem mh_size {post : Int32 → Prop} {x : Int32} (hp : post (mh_cnt x 8)) : wpX_sizeOf post (c, k, a1, a2, a3, a4, a5, a6, a7, a8, a9, a10, a11, a12) x :=
  pk_loop (fun n i s => wX_sizeOf_4 post x c k a1 a2 a3 a4 a5 a6 a7 a8 a9 a10 a11 a12 n s (nI i)) (fun i s => s = mh_cnt x i) 8 0 0 (by omega) rfl
    (fun n s h => pk_le 8 8 (fun _ => by rw [h]; exact hp) (fun z => absurd z (by omega)))
    (fun n i s hi h hw => pk_le 8 i (fun z => absurd z (by omega)) (fun _ => nm_e (nm_r (nI_1 i) (hw _ (by rw [h]; rfl)))))
theorem mh_close {post : Int32 → St2 → Prop} (ht : t < 4) (hO : mh_O t a6 a7 a8 a9 a11)
    (hp : ∀ k' a6' a11', post (mh_cnt (0 ||| a10 (t * 4)) 8) (c ||| 2, k', a1, a2, a3, a4, a5, a6', a7, a8, a9, a10, a11', a12)) :
    wpX_close post (c, k, a1, a2, a3, a4, a5, a6, a7, a8, a9, a10, a11, a12) (nI t) 1 := by
  have h8 := hO.2.2.2.1
  unfold wpX_close
  try dsimp only
  refine mh_chg ht h8 (mh_own ht h8 hO.2.2.2.2.1 (nm_e ⟨pk_in t 4 ht, nm_e (br_f (by decide) (nm_e ?_))⟩))
  exact pk_loop (fun n i s => wX_close_53 post (0 ||| a10 (t * 4)) (c ||| 2) (k &&& (2 ^^^ (-1))) n (nI i) a1 a2 a3 a4 a5 (upd a6 (nI t).toNatClampNeg 0) a7 a8 a9 a10 s a12) (fun _ _ => True) 4 0 a11 (by omega) trivial
    (fun n s _ => pk_le 4 4 (fun _ => mh_size (hp _ _ _)) (fun z => absurd z (by omega)))
    (fun n i s hi _ hw => pk_le 4 i (fun z => absurd z (by omega)) (fun _ => ⟨pk_in i 4 hi, pk_in i 4 hi, nm_e (nm_r (nI_1 i) (hw _ trivial))⟩))
end
end
section
section
variable {c k : Int64} {a1 a2 a3 a4 a5 a6 : Nat → Int32} {a7 : Nat → Int64} {a8 a9 a10 a11 a12 : Nat → Int32} {t : Nat}
theorem mh_open {post : Int32 → St2 → Prop} (ht : t < 4) (h6 : ∀ u, a6 u = 0) (h1 : ∀ j, j < 96 → a1 j = 0)
    (hp : ∀ a6' a7' a8' a9' a10' a11', mh_O t a6' a7' a8' a9' a11' → a10' (t * 4) = 0 → post 0 (0, 2, a1, a2, a3, a4, a5, a6', a7', a8', a9', a10', a11', a12)) :
    wpX_open post (0, 0, a1, a2, a3, a4, a5, a6, a7, a8, a9, a10, a11, a12) (nI t) := by
  have it : vp_in (nI t) 4 := pk_in t 4 ht
  have i4 : vp_in (nI t * 4) 16 := pk_in (t * 4) 16 (by omega) (mh_t4 t)
  have ct : (nI t).toNatClampNeg = t := nI_clamp (by omega)
  have c4 : (nI t * 4).toNatClampNeg = t * 4 := by rw [mh_t4]; exact nI_clamp (by omega)
  unfold wpX_open
  try dsimp only
  refine mh_ref0 ht (h6 t) (br_t rfl (mh_nn h1 ?_))
  try dsimp only
  rw [ct, c4]
  refine ⟨it, nm_e ⟨it, nm_e ⟨it, nm_e ⟨i4, nm_e ⟨i4, nm_e ⟨it, nm_e ?_⟩⟩⟩⟩⟩⟩
  refine hp _ _ _ _ _ _ ⟨pk_us, fun u _ hu => ?_, pk_uLs, pk_us, pk_us, pk_us⟩ pk_us
  rw [pk_un hu]
  exact h6 u
theorem mh_openN {post : Int32 → St2 → Prop} {x : Int32} (hx : x < 0 ∨ ¬ x < 4) (hp : post (-1) (c, k, a1, a2, a3, a4, a5, a6, a7, a8, a9, a10, a11, a12)) :
    wpX_open post (c, k, a1, a2, a3, a4, a5, a6, a7, a8, a9, a10, a11, a12) x := by
  unfold wpX_open
  try dsimp only
  exact mh_refN hx (br_f (by decide) (br_t rfl hp))
theorem mh_put {post : Int32 → St2 → Prop} {r : Nat} {v : Int32} (ht : t < 4) (hr : r < 8) (hO : mh_O t a6 a7 a8 a9 a11) (h1 : ∀ j, j < 96 → a1 j = 0)
    (hp : post 0 (c, k, upd a1 0 1, upd a2 0 (nI r), upd a3 0 v, upd a4 0 1, upd a5 0 0, a6, a7, a8, a9, upd a10 (t * 4) (a10 (t * 4) ||| ((1 : Int32) <<< (nI r &&& 31))), a11, a12)) :
    wpX_put post (c, k, a1, a2, a3, a4, a5, a6, a7, a8, a9, a10, a11, a12) (nI t) (nI r) v := by
  unfold wpX_put
  try dsimp only
  refine mh_row ht hO.1 hr (br_t (by decide) (mh_blk ht hr hO (br_t (by decide) (mh_vo0 ht hO h1 (mh_wr0 ht hO (h1 0 (by omega)) ?_)))))
  exact br_f (by decide) hp
theorem mh_putN {post : Int32 → St2 → Prop} {x r v : Int32} (h : ∀ {q : Int32 → Prop}, q (-1) → wpX_refusedRow q (c, k, a1, a2, a3, a4, a5, a6, a7, a8, a9, a10, a11, a12) x r)
    (hp : post (-1) (c, k, a1, a2, a3, a4, a5, a6, a7, a8, a9, a10, a11, a12)) : wpX_put post (c, k, a1, a2, a3, a4, a5, a6, a7, a8, a9, a10, a11, a12) x r v := by
  unfold wpX_put
  try dsimp only
  refine h ?_
  exact br_f (by decide) hp
theorem mh_add {post : Int32 → St2 → Prop} {r : Nat} {d : Int32} (ht : t < 4) (hr : r < 8) (hO : mh_O t a6 a7 a8 a9 a11) (hV : mh_V (nI r) a1 a2 a4 a5)
    (hp : post 0 (c, k, a1, a2, upd a3 0 (a3 0 + d), a4, a5, a6, a7, a8, a9, upd a10 (t * 4) (a10 (t * 4) ||| ((1 : Int32) <<< (nI r &&& 31))), a11, a12)) :
    wpX_add post (c, k, a1, a2, a3, a4, a5, a6, a7, a8, a9, a10, a11, a12) (nI t) (nI r) d := by
  unfold wpX_add
  try dsimp only
  refine mh_row ht hO.1 hr (br_t (by decide) (mh_vo1 ht hO hV (br_t (by decide) (mh_blk ht hr hO (br_t (by decide) ⟨pk_in 0 96 (by omega), ?_⟩)))))
  exact mh_wr1 ht hO hV.2.2.1 hp
theorem mh_addN {post : Int32 → St2 → Prop} {x r d : Int32} (h : ∀ {q : Int32 → Prop}, q (-1) → wpX_refusedRow q (c, k, a1, a2, a3, a4, a5, a6, a7, a8, a9, a10, a11, a12) x r)
    (hp : post (-1) (c, k, a1, a2, a3, a4, a5, a6, a7, a8, a9, a10, a11, a12)) : wpX_add post (c, k, a1, a2, a3, a4, a5, a6, a7, a8, a9, a10, a11, a12) x r d := by
  unfold wpX_add
  try dsimp only
  refine h ?_
  exact br_f (by decide) hp
theorem mh_get {post : Int32 → Prop} {r : Nat} (ht : t < 4) (hr : r < 8) (hO : mh_O t a6 a7 a8 a9 a11) (hV : mh_V (nI r) a1 a2 a4 a5) (hp : post (a3 0)) :
    wpX_get post (c, k, a1, a2, a3, a4, a5, a6, a7, a8, a9, a10, a11, a12) (nI t) (nI r) := by
  unfold wpX_get
  try dsimp only
  refine mh_row ht hO.1 hr (br_t (by decide) (mh_vo1 ht hO hV ?_))
  exact br_t (by decide) ⟨pk_in 0 96 (by omega), hp⟩
theorem mh_getN {post : Int32 → Prop} {x r : Int32} (h : ∀ {q : Int32 → Prop}, q (-1) → wpX_refusedRow q (c, k, a1, a2, a3, a4, a5, a6, a7, a8, a9, a10, a11, a12) x r)
    (hp : post 0) : wpX_get post (c, k, a1, a2, a3, a4, a5, a6, a7, a8, a9, a10, a11, a12) x r := by
  unfold wpX_get
  try dsimp only
  refine h ?_
  exact br_f (by decide) hp
theorem mh_com {post : Int32 → St2 → Prop} (ht : t < 4) (hO : mh_O t a6 a7 a8 a9 a11)
    (hp : ∀ k' a6' a11', post (mh_cnt (0 ||| a10 (t * 4)) 8) (c ||| 2, k', a1, a2, a3, a4, a5, a6', a7, a8, a9, a10, a11', a12)) :
    wpX_commit post (c, k, a1, a2, a3, a4, a5, a6, a7, a8, a9, a10, a11, a12) (nI t) := by
  unfold wpX_commit
  try dsimp only
  refine mh_ref1 ht hO.1 (br_t (by decide) (mh_close ht hO ?_))
  exact hp
theorem mh_comN {post : Int32 → St2 → Prop} {x : Int32} (hx : x < 0 ∨ ¬ x < 4) (hp : post (-1) (c, k, a1, a2, a3, a4, a5, a6, a7, a8, a9, a10, a11, a12)) :
    wpX_commit post (c, k, a1, a2, a3, a4, a5, a6, a7, a8, a9, a10, a11, a12) x := by
  unfold wpX_commit
  try dsimp only
  exact mh_refN hx (br_f (by decide) hp)
theorem mh_cd {post : Int32 → Prop} {r : Nat} (hr : r < 8) (hc : c = 2) (hV : mh_V (nI r) a1 a2 a4 a5) (hp : post (a3 0)) :
    wpX_committed post (c, k, a1, a2, a3, a4, a5, a6, a7, a8, a9, a10, a11, a12) (nI r) := by
  unfold wpX_committed
  try dsimp only
  refine br_f (nI_pos (by omega)) (br_t (nI_lt (b := 8) hr (by decide)) (mh_vf1 hc hV ?_))
  exact br_t (by decide) ⟨pk_in 0 96 (by omega), hp⟩
theorem mh_cd0 {post : Int32 → Prop} {r : Int32} (h1 : ∀ j, j < 96 → a1 j = 0) (hp : post 0) :
    wpX_committed post (c, k, a1, a2, a3, a4, a5, a6, a7, a8, a9, a10, a11, a12) r := by
  unfold wpX_committed
  try dsimp only
  refine br_c (fun _ => hp) (fun _ => br_c (fun _ => mh_vf0 h1 ?_) (fun _ => hp))
  exact br_f (by decide) hp
end
end
section
theorem mh_in (x : Int32) {n : Nat} (hn : n < 2 ^ 31) : (x < 0 ∨ ¬ x < nI n) ∨ ∃ j : Nat, j < n ∧ x = nI j := by
  rcases pk_ix x hn with h | h | h
  · exact Or.inl (Or.inl h)
  · refine Or.inl (Or.inr (fun g => ?_))
    have h' := Int32.le_iff_toInt_le.mp h
    have g' := Int32.lt_iff_toInt_lt.mp g
    omega
  · exact Or.inr h
theorem mh_gt {x : Int32} (y z : Int32) (hz : z.toInt = y.toInt + 1) (h : ¬ x < z) : y < x := by
  rw [Int32.lt_iff_toInt_lt] at h ⊢
  omega
/-- the law's end, t outside -/
theorem mh_e75 {post : Int32 → St0 → Prop} {mc ms kc ks : Nat} {r v d : Int32} (hp : post 1 ()) : wL_lawOf_75 post mc ms r v d (-1) (-1) (-1) 0 (-1) 0 kc ks :=
  br_t rfl (br_t rfl (br_t rfl (br_t rfl (br_t rfl (br_t rfl (br_t rfl (br_t rfl (br_t rfl (br_t rfl (br_t rfl (br_t rfl (br_t rfl hp))))))))))))
/-- the law's end, t inside, r outside -/
theorem mh_e97 {post : Int32 → St0 → Prop} {mc ms kc ks : Nat} {v d : Int32} (hp : post 1 ()) : wL_lawOf_97 post mc ms v d 0 (-1) (-1) 0 0 0 1 kc ks :=
  br_f (by decide) (br_t rfl (br_t rfl (br_t rfl (br_t rfl (br_t rfl (br_t rfl (br_t rfl (br_f (by decide) (br_t rfl (br_t rfl (br_t rfl (br_t rfl hp))))))))))))
/-- the law's end, both inside -/
theorem mh_e98 {post : Int32 → St0 → Prop} {mc ms kc ks : Nat} {v d : Int32} (hp : post 1 ()) : wL_lawOf_98 post mc ms v d 0 0 0 (v + d) 1 (v + d) 1 1 kc ks :=
  br_f (by decide) (br_t rfl (br_f (by decide) (br_t rfl (br_f (by decide) (br_t rfl (br_f (by decide) (br_t rfl (br_f (by decide) (br_f (by decide) (br_t rfl (br_f (by decide) (br_t rfl hp))))))))))))
theorem mh_one : ∀ r, r < 8 → mh_cnt (0 ||| ((0 ||| ((1 : Int32) <<< (nI r &&& 31))) ||| ((1 : Int32) <<< (nI r &&& 31)))) 8 = 1 := by decide +kernel
theorem mh_nil : mh_cnt (0 ||| 0) 8 = 0 := by decide +kernel
theorem mh_lawOf {post : Int32 → St0 → Prop} (x y v d : Int32) (hp : post 1 ()) : wpL_lawOf post 13 558 () x y v d := by
  unfold wpL_lawOf
  refine ⟨by decide, by decide, 12, 544, by decide, by decide, ?_⟩
  unfold wpX_init
  try dsimp only
  refine ⟨by decide, by decide, by decide, by decide, by decide, by decide, by decide, by decide, by decide, by decide, by decide, by decide, by decide, by decide, by decide, by decide, by decide, by decide, by decide, by decide, by decide, by decide, by decide, by decide, ?_⟩
  have z96 : ∀ j : Nat, j < 96 → (fun _ : Nat => (0 : Int32)) j = 0 := fun _ _ => rfl
  rcases mh_in x (n := 4) (by decide) with hx | ⟨t, ht, rfl⟩
  · refine mh_openN hx (mh_putN (fun q => mh_rowN hx q) (mh_addN (fun q => mh_rowN hx q) (mh_getN (fun q => mh_rowN hx q) (mh_comN hx (mh_cd0 z96 ?_)))))
    refine br_c (fun _ => mh_e75 hp) (fun h => br_t ?_ (mh_e75 hp))
    exact mh_gt 3 4 (by decide) (hx.resolve_left h)
  · refine mh_open ht (fun _ => rfl) z96 (fun a6 a7 a8 a9 a10 a11 hO h10 => ?_)
    have g0 : ¬ nI t < 0 := nI_pos (by omega)
    have g3 : ¬ 3 < nI t := nI_nlt (a := 3) (b := t) (by omega) (by decide)
    rcases mh_in y (n := 8) (by decide) with hy | ⟨r, hr, rfl⟩
    · refine mh_putN (fun q => mh_rowR ht hO.1 hy q) (mh_addN (fun q => mh_rowR ht hO.1 hy q) (mh_getN (fun q => mh_rowR ht hO.1 hy q) (mh_com ht hO (fun k' a6' a11' => mh_cd0 z96 ?_))))
      dsimp only
      rw [h10, mh_nil]
      refine br_f g0 (br_f g3 (br_f (by decide) (br_c (fun _ => mh_e97 hp) (fun h => br_t ?_ (mh_e97 hp)))))
      exact mh_gt 7 8 (by decide) (hy.resolve_left h)
    · have hV : mh_V (nI r) (upd (fun _ => 0) 0 1) (upd (fun _ => 0) 0 (nI r)) (upd (fun _ => 0) 0 1) (upd (fun _ => 0) 0 0) := ⟨pk_us, pk_us, pk_us, pk_us⟩
      refine mh_put ht hr hO z96 ?_
      dsimp only
      refine mh_add ht hr hO hV ?_
      dsimp only
      refine mh_get ht hr hO hV ?_
      refine mh_com ht hO (fun k' a6' a11' => ?_)
      dsimp only
      refine mh_cd hr (by decide) hV ?_
      rw [pk_us, pk_us, pk_us, pk_us, h10, mh_one r hr]
      refine br_f g0 (br_f g3 (br_f (by decide) (br_f (nI_pos (by omega)) (br_f (nI_nlt (a := 7) (b := r) (by omega) (by decide)) (mh_e98 hp)))))
theorem mh_cell {post : Int32 → Prop} {L : Nat} {xs : Nat → Int32} (i : Nat) (hL : L ≤ 4) (hi : i < 4) (h : ∀ x, post x) : wpL_cellAt post L xs () (nI i) :=
  pk_le L i (fun _ => h 0) (fun z => ⟨pk_in i L z, h _⟩)
theorem i_vc (xs : Nat → Int32) (L : Nat) (hL : L ≤ 4) : wpL_law (fun r => r = 1) L xs :=
  mh_cell 0 hL (by omega) (fun t => mh_cell 1 hL (by omega) (fun r => mh_cell 2 hL (by omega) (fun v => mh_cell 3 hL (by omega) (fun d =>
    ⟨13, 558, by decide, by decide, mh_lawOf t r v d rfl⟩))))
end
