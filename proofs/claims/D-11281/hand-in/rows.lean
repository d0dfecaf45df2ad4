section
/-- the picture keeps, for each value, a mask of the given values; V reads a mask: additive, and it answers bytes -/
def fd_hom (V : Int32 → Int32) : Prop := V 0 = 0 ∧ (∀ x y, V (x ^^^ y) = V x ^^^ V y) ∧ (∀ x, (V x).toInt16.toInt32 = V x) ∧ (∀ x, ¬ V x < 0) ∧ (∀ x, V x ≤ 255)
/-- the state that a picture (masks in place of values) stands for -/
def fd_im (V : Int32 → Int32) (u : St2) : St2 := match u with
  | (p, k, r, ls, lv, a1, a2, a3, a4) => (p, k, r, ls, V lv, a1, fun j => V (a2 j), a3, fun j => V (a4 j))
/-- what all leading pieces of the rows below n leave of a set and its value -/
def fd_red (R W : Nat → Int32) : Nat → Int32 → Int32 → Int32 × Int32
  | 0, s, v => (s, v)
  | n + 1, s, v => if ((s >>> (nI n &&& 31)) &&& 1) = 0 then fd_red R W n s v else if R n = 0 then fd_red R W n s v else fd_red R W n (s ^^^ R n) (v ^^^ W n)
def fd_reduce (u : St2) (s m : Int32) : St2 := match u with
  | (p, k, r, _, _, a1, a2, a3, a4) => (p, k, r, (fd_red a3 a4 8 s m).1, (fd_red a3 a4 8 s m).2, a1, a2, a3, a4)
def fd_lead (s : Int32) : Nat → Nat
  | 0 => 0
  | n + 1 => if ((s >>> (nI (n + 1) &&& 31)) &&& 1) = 0 then fd_lead s n else n + 1
/-- the rows below n with the piece i taken out of them, and their values -/
def fd_xr (R : Nat → Int32) (i : Nat) (s : Int32) (n : Nat) : Nat → Int32 := fun j => if j < n then (if ((R j >>> (nI i &&& 31)) &&& 1) = 0 then R j else (R j ^^^ s).toInt16.toInt32) else R j
def fd_xw (R W : Nat → Int32) (i : Nat) (v : Int32) (n : Nat) : Nat → Int32 := fun j => if j < n then (if ((R j >>> (nI i &&& 31)) &&& 1) = 0 then W j else W j ^^^ v) else W j
def fd_row (u : St2) (i : Nat) : St2 := match u with
  | (p, k, r, ls, lv, a1, a2, a3, a4) => (p, k, r + 1, ls, lv, a1, a2, upd (fd_xr a3 i ls 8) i ls.toInt16.toInt32, upd (fd_xw a3 a4 i lv 8) i lv)
def fd_ls (u : St2) : Int32 := u.2.2.2.1
def fd_lv (u : St2) : Int32 := u.2.2.2.2.1
def fd_incl (u : St2) (s m : Int32) : St2 :=
  if fd_ls (fd_reduce u s m) = 0 then fd_reduce u s m else fd_row (fd_reduce u s m) (fd_lead (fd_ls (fd_reduce u s m)) 7)
def fd_zero (R : Nat → Int32) (n : Nat) : Nat → Int32 := fun j => if j < n then 0 else R j
def fd_clear (u : St2) : St2 := match u with
  | (p, k, _, ls, lv, a1, a2, a3, a4) => (p, k, 0, ls, lv, a1, a2, fd_zero a3 8, fd_zero a4 8)
def fd_bld (x : Int32) : Nat → Nat → St2 → St2
  | 0, _, u => u
  | n + 1, i, u => fd_bld x n (i + 1) (if ((x >>> (nI i &&& 31)) &&& 1) = 0 then u else fd_incl u (u.2.2.2.2.2.1 i) (u.2.2.2.2.2.2.1 i))
def fd_build (u : St2) (x : Int32) : St2 := fd_bld x 10 0 (fd_clear u)
def fd_kn (u : St2) (k : Int32) : St2 := match u with
  | (p, _, r, ls, lv, a1, a2, a3, a4) => (p, k, r, ls, lv, a1, a2, a3, a4)
def fd_learn (u : St2) : St2 := if u.2.1 = 0 then fd_build (fd_kn u 1) u.1 else u
def fd_find (p : Int32) : Nat → Nat → Nat
  | 0, i => i
  | n + 1, i => if ((p >>> (nI i &&& 31)) &&& 1) = 0 then i else fd_find p n (i + 1)
def fd_put (u : St2) (k : Nat) (s m : Int32) : St2 := match u with
  | (p, kn, r, ls, lv, a1, a2, a3, a4) => (p ||| ((1 : Int32) <<< (nI k &&& 31)), kn, r, ls, lv, upd a1 k s.toInt16.toInt32, upd a2 k m, a3, a4)
def fd_take (u : St2) (s m : Int32) : Int32 × St2 :=
  if fd_find u.1 10 0 = 10 then (-2, u)
  else if fd_ls (fd_reduce (fd_learn u) s m) = 0 ∧ ¬ fd_lv (fd_reduce (fd_learn u) s m) = 0 then (-3, fd_reduce (fd_learn u) s m)
  else (nI (fd_find u.1 10 0), fd_incl (fd_put (fd_reduce (fd_learn u) s m) (fd_find u.1 10 0) s m) s m)
def fd_sg (R : Nat → Int32) : Nat → Nat → Int32 → Int32
  | 0, _, x => x
  | n + 1, i, x => fd_sg R n (i + 1) (if R i = ((1 : Int32) <<< (nI i &&& 31)) then x ||| ((1 : Int32) <<< (nI i &&& 31)) else x ||| 0)
def fd_R (u : St2) : Nat → Int32 := u.2.2.2.2.2.2.2.1
def fd_W (u : St2) : Nat → Int32 := u.2.2.2.2.2.2.2.2
def fd_rank (u : St2) : Int32 := u.2.2.1
def fd_rankOf (u : St2) (x : Int32) : St2 := fd_build (fd_kn u 0) (x &&& u.1)
def fd_u0 : St2 := (0, 0, 0, 0, 0, fun _ => 0, fun _ => 0, fun _ => 0, fun _ => 0)
/-- stores over pictures -/
theorem fd_upV {V : Int32 → Int32} (W : Nat → Int32) (k : Nat) (m : Int32) : upd (fun j => V (W j)) k (V m) = fun j => V (upd W k m j) := by
  funext j
  by_cases e : j = k
  · rw [e, pk_us]
    show V m = V (upd W k m k)
    rw [pk_us]
  · rw [pk_un e]
    show V (W j) = V (upd W k m j)
    rw [pk_un e]
theorem fd_zero_0 (R : Nat → Int32) : fd_zero R 0 = R := by
  funext j
  exact if_neg (Nat.not_lt_zero j)
theorem fd_zero_s (R : Nat → Int32) (n : Nat) : upd (fd_zero R n) n 0 = fd_zero R (n + 1) := by
  funext j
  by_cases e : j = n
  · rw [e, pk_us]
    exact (if_pos (Nat.lt_succ_self n)).symm
  · rw [pk_un e]
    unfold fd_zero
    by_cases h : j < n
    · rw [if_pos h, if_pos (by omega)]
    · rw [if_neg h, if_neg (by omega)]
theorem fd_xr_0 (R : Nat → Int32) (i : Nat) (s : Int32) : fd_xr R i s 0 = R := by
  funext j
  exact if_neg (Nat.not_lt_zero j)
theorem fd_xw_0 (R W : Nat → Int32) (i : Nat) (s : Int32) : fd_xw R W i s 0 = W := by
  funext j
  exact if_neg (Nat.not_lt_zero j)
theorem fd_xr_at (R : Nat → Int32) (i : Nat) (s : Int32) (n : Nat) : fd_xr R i s n n = R n := if_neg (Nat.lt_irrefl n)
theorem fd_xw_at (R W : Nat → Int32) (i : Nat) (v : Int32) (n : Nat) : fd_xw R W i v n n = W n := if_neg (Nat.lt_irrefl n)
theorem fd_xr_k (R : Nat → Int32) (i : Nat) (s : Int32) (n : Nat) (h : ((R n >>> (nI i &&& 31)) &&& 1) = 0) : fd_xr R i s n = fd_xr R i s (n + 1) := by
  funext j
  unfold fd_xr
  by_cases e : j = n
  · rw [e, if_neg (Nat.lt_irrefl n), if_pos (Nat.lt_succ_self n), if_pos h]
  · by_cases g : j < n
    · rw [if_pos g, if_pos (show j < n + 1 by omega)]
    · rw [if_neg g, if_neg (show ¬ j < n + 1 by omega)]
theorem fd_xw_k (R W : Nat → Int32) (i : Nat) (v : Int32) (n : Nat) (h : ((R n >>> (nI i &&& 31)) &&& 1) = 0) : fd_xw R W i v n = fd_xw R W i v (n + 1) := by
  funext j
  unfold fd_xw
  by_cases e : j = n
  · rw [e, if_neg (Nat.lt_irrefl n), if_pos (Nat.lt_succ_self n), if_pos h]
  · by_cases g : j < n
    · rw [if_pos g, if_pos (show j < n + 1 by omega)]
    · rw [if_neg g, if_neg (show ¬ j < n + 1 by omega)]
theorem fd_xr_x (R : Nat → Int32) (i : Nat) (s : Int32) (n : Nat) (h : ¬ ((R n >>> (nI i &&& 31)) &&& 1) = 0) : upd (fd_xr R i s n) n ((R n ^^^ s).toInt16.toInt32) = fd_xr R i s (n + 1) := by
  funext j
  by_cases e : j = n
  · rw [e, pk_us]
    unfold fd_xr
    rw [if_pos (Nat.lt_succ_self n), if_neg h]
  · rw [pk_un e]
    unfold fd_xr
    by_cases g : j < n
    · rw [if_pos g, if_pos (show j < n + 1 by omega)]
    · rw [if_neg g, if_neg (show ¬ j < n + 1 by omega)]
theorem fd_xw_x (R W : Nat → Int32) (i : Nat) (v : Int32) (n : Nat) (h : ¬ ((R n >>> (nI i &&& 31)) &&& 1) = 0) : upd (fd_xw R W i v n) n (W n ^^^ v) = fd_xw R W i v (n + 1) := by
  funext j
  by_cases e : j = n
  · rw [e, pk_us]
    unfold fd_xw
    rw [if_pos (Nat.lt_succ_self n), if_neg h]
  · rw [pk_un e]
    unfold fd_xw
    by_cases g : j < n
    · rw [if_pos g, if_pos (show j < n + 1 by omega)]
    · rw [if_neg g, if_neg (show ¬ j < n + 1 by omega)]
theorem fd_lead_le (s : Int32) : ∀ n, fd_lead s n ≤ n
  | 0 => Nat.le_refl 0
  | n + 1 => by
    unfold fd_lead
    by_cases h : ((s >>> (nI (n + 1) &&& 31)) &&& 1) = 0
    · rw [if_pos h]
      exact Nat.le_succ_of_le (fd_lead_le s n)
    · rw [if_neg h]
      exact Nat.le_refl _
theorem fd_find_le (p : Int32) : ∀ n i, fd_find p n i ≤ i + n
  | 0, i => Nat.le_refl i
  | n + 1, i => by
    unfold fd_find
    by_cases h : ((p >>> (nI i &&& 31)) &&& 1) = 0
    · rw [if_pos h]
      exact Nat.le_add_right _ _
    · rw [if_neg h]
      have := fd_find_le p n (i + 1)
      omega
end
section
theorem fd_w_red {post : St2 → Prop} {V : Int32 → Int32} (hV : fd_hom V) (p k r : Int32) (a1 a2 R W : Nat → Int32) : ∀ (n : Nat) (s m : Int32), n ≤ 8 → post (p, k, r, (fd_red R W n s m).1, V (fd_red R W n s m).2, a1, a2, R, fun j => V (W j)) → wX_reduce_13 post p k r a1 a2 R (fun j => V (W j)) (n + 1) (nI n + (-1)) s (V m) := by
  intro n
  induction n with
  | zero =>
    intro s m _ h
    exact br_t (by decide) h
  | succ n ih =>
    intro s m hn h
    rw [pk_m1]
    refine br_f (nI_pos (by omega)) (br_c (fun hb => nm_e (ih s m (by omega) ?_)) (fun hb => ⟨pk_in n 8 (by omega), ?_⟩))
    · rw [fd_red, if_pos hb] at h
      exact h
    · rw [nI_clamp (show n < 2 ^ 31 by omega)]
      rw [fd_red, if_neg hb] at h
      refine br_c (fun hz => nm_e (ih s m (by omega) ?_)) (fun hz => ⟨pk_in n 8 (by omega), nm_e ⟨pk_in n 8 (by omega), nm_r (hV.2.1 m (W n)).symm (nm_e (ih (s ^^^ R n) (m ^^^ W n) (by omega) ?_))⟩⟩)
      · rw [if_pos hz] at h
        exact h
      · rw [if_neg hz] at h
        exact h
theorem fd_w_reduce {post : St2 → Prop} {V : Int32 → Int32} (hV : fd_hom V) (u : St2) (s m : Int32) (h : post (fd_im V (fd_reduce u s m))) : wpX_reduce post (fd_im V u) s (V m) := by
  obtain ⟨p, k, r, ls, lv, a1, a2, a3, a4⟩ := u
  have t := fd_w_red (post := post) hV p k r a1 (fun j => V (a2 j)) a3 a4 8 s m (Nat.le_refl 8) h
  rw [show nI 8 + (-1) = 7 by decide] at t
  exact ⟨9, t⟩
theorem fd_w_lead {post : Int32 → Prop} (s : Int32) : ∀ n, n ≤ 7 → post (nI (fd_lead s n)) → wX_leader_3 post s (n + 1) (nI n) := by
  intro n
  induction n with
  | zero =>
    intro _ h
    exact br_t (by decide) h
  | succ n ih =>
    intro hn h
    refine br_f (nI_nle (by omega) (by omega)) (br_c (fun hb => nm_r (pk_m1 n) (ih (by omega) ?_)) (fun hb => ?_))
    · rw [fd_lead, if_pos hb] at h
      exact h
    · rw [fd_lead, if_neg hb] at h
      exact h
theorem fd_w_leader {post : Int32 → Prop} (s : Int32) (h : post (nI (fd_lead s 7))) : wpX_leader post () s :=
  ⟨8, fd_w_lead s 7 (Nat.le_refl 7) h⟩
theorem fd_w_inc {post : St2 → Prop} {V : Int32 → Int32} (hV : fd_hom V) (p k r ls lv : Int32) (a1 a2 R W : Nat → Int32) (i : Nat) (hi : i < 8) (h : post (fd_im V (fd_row (p, k, r, ls, lv, a1, a2, R, W) i))) : ∀ n t, t + n = 8 → wX_include_25 post (nI i) p k r ls (V lv) (n + 1) (nI t) a1 (fun j => V (a2 j)) (fd_xr R i ls t) (fun j => V (fd_xw R W i lv t j)) := by
  intro n
  induction n with
  | zero =>
    intro t ht
    have e : t = 8 := by omega
    subst e
    have e2 : upd (fun j => V (fd_xw R W i lv 8 j)) i (V lv).toInt16.toInt32 = fun j => V (upd (fd_xw R W i lv 8) i lv j) := by
      rw [hV.2.2.1, fd_upV]
    have hc := nI_clamp (show i < 2 ^ 31 by omega)
    refine br_t (nI_le (a := 8) (Nat.le_refl 8) (by decide)) ⟨pk_in i 8 hi, nm_r (by rw [hc]) ⟨pk_in i 8 hi, nm_r (by rw [hc]; exact e2) (nm_e h)⟩⟩
  | succ n ih =>
    intro t ht
    have hw := ih (t + 1) (by omega)
    refine br_f (nI_ge (b := 8) (by omega) (by decide)) ⟨pk_in t 8 (by omega), ?_⟩
    rw [nI_clamp (show t < 2 ^ 31 by omega), fd_xr_at]
    refine br_c (fun hb => nm_r (nI_1 t) ?_) (fun hb => ⟨pk_in t 8 (by omega), pk_in t 8 (by omega), nm_r (fd_xr_x R i ls t hb) ⟨pk_in t 8 (by omega), pk_in t 8 (by omega), nm_r ?_ (nm_r (nI_1 t) hw)⟩⟩)
    · rw [fd_xr_k R i ls t hb, fd_xw_k R W i lv t hb]
      exact hw
    · show upd (fun j => V (fd_xw R W i lv t j)) t ((V (fd_xw R W i lv t t) ^^^ V lv).toInt16.toInt32) = _
      rw [fd_xw_at, ← hV.2.1, hV.2.2.1, fd_upV, fd_xw_x R W i lv t hb]
theorem fd_w_incl {post : St2 → Prop} {V : Int32 → Int32} (hV : fd_hom V) (u : St2) (s m : Int32) (h : post (fd_im V (fd_incl u s m))) : wpX_include post (fd_im V u) s (V m) := by
  obtain ⟨p, k, r, ls, lv, a1, a2, a3, a4⟩ := u
  unfold wpX_include
  refine fd_w_reduce hV (p, k, r, ls, lv, a1, a2, a3, a4) s m ?_
  by_cases hz : fd_ls (fd_reduce (p, k, r, ls, lv, a1, a2, a3, a4) s m) = 0
  · rw [fd_incl, if_pos hz] at h
    exact br_t hz h
  · rw [fd_incl, if_neg hz] at h
    refine br_f hz (fd_w_leader _ ⟨9, ?_⟩)
    have hw := fd_w_inc (post := post) hV p k r (fd_red a3 a4 8 s m).1 (fd_red a3 a4 8 s m).2 a1 a2 a3 a4 (fd_lead (fd_red a3 a4 8 s m).1 7) (Nat.lt_succ_of_le (fd_lead_le _ 7)) h 8 0 rfl
    rw [fd_xr_0, fd_xw_0] at hw
    exact hw
theorem fd_w_clr {post : St2 → Prop} {V : Int32 → Int32} (hV : fd_hom V) (p k r ls lv : Int32) (a1 a2 R W : Nat → Int32) (h : post (p, k, 0, ls, lv, a1, a2, fd_zero R 8, fun j => V (fd_zero W 8 j))) : ∀ n t, t + n = 8 → wX_clearRows_2 post p k r ls lv (n + 1) (nI t) a1 a2 (fd_zero R t) (fun j => V (fd_zero W t j)) := by
  intro n
  induction n with
  | zero =>
    intro t ht
    have e : t = 8 := by omega
    subst e
    exact br_t (nI_le (a := 8) (Nat.le_refl 8) (by decide)) h
  | succ n ih =>
    intro t ht
    have hw := ih (t + 1) (by omega)
    have e : upd (fun j => V (fd_zero W t j)) t (V 0) = fun j => V (fd_zero W (t + 1) j) := by
      rw [fd_upV, fd_zero_s]
    rw [hV.1] at e
    have hc := nI_clamp (show t < 2 ^ 31 by omega)
    exact br_f (nI_ge (b := 8) (by omega) (by decide)) ⟨pk_in t 8 (by omega), nm_r (by rw [hc]; exact fd_zero_s R t) ⟨pk_in t 8 (by omega), nm_r (by rw [hc]; exact e) (nm_r (nI_1 t) hw)⟩⟩
theorem fd_w_clear {post : St2 → Prop} {V : Int32 → Int32} (hV : fd_hom V) (u : St2) (h : post (fd_im V (fd_clear u))) : wpX_clearRows post (fd_im V u) := by
  obtain ⟨p, k, r, ls, lv, a1, a2, a3, a4⟩ := u
  have hw := fd_w_clr (post := post) hV p k r ls (V lv) a1 (fun j => V (a2 j)) a3 a4 h 8 0 rfl
  rw [fd_zero_0, fd_zero_0] at hw
  exact ⟨9, hw⟩
theorem fd_w_bld {post : St2 → Prop} {V : Int32 → Int32} (hV : fd_hom V) (x : Int32) : ∀ (n i : Nat) (u : St2), i + n = 10 → post (fd_im V (fd_bld x n i u)) → wX_build_6 post x (n + 1) (nI i) u.1 u.2.1 u.2.2.1 u.2.2.2.1 (V u.2.2.2.2.1) u.2.2.2.2.2.1 (fun j => V (u.2.2.2.2.2.2.1 j)) u.2.2.2.2.2.2.2.1 (fun j => V (u.2.2.2.2.2.2.2.2 j)) := by
  intro n
  induction n with
  | zero =>
    intro i u hi h
    obtain ⟨p, k, r, ls, lv, a1, a2, a3, a4⟩ := u
    have e : i = 10 := by omega
    subst e
    exact br_t (nI_le (a := 10) (Nat.le_refl 10) (by decide)) h
  | succ n ih =>
    intro i u hi h
    obtain ⟨p, k, r, ls, lv, a1, a2, a3, a4⟩ := u
    refine br_f (nI_ge (b := 10) (by omega) (by decide)) (br_c (fun hb => nm_r (nI_1 i) (ih (i + 1) (p, k, r, ls, lv, a1, a2, a3, a4) (by omega) ?_)) (fun hb => ⟨pk_in i 10 (by omega), pk_in i 10 (by omega), ?_⟩))
    · rw [fd_bld, if_pos hb] at h
      exact h
    · rw [fd_bld, if_neg hb] at h
      rw [nI_clamp (show i < 2 ^ 31 by omega)]
      refine fd_w_incl hV (p, k, r, ls, lv, a1, a2, a3, a4) (a1 i) (a2 i) ?_
      have h' : post (fd_im V (fd_bld x n (i + 1) (fd_incl (p, k, r, ls, lv, a1, a2, a3, a4) (a1 i) (a2 i)))) := h
      generalize fd_incl (p, k, r, ls, lv, a1, a2, a3, a4) (a1 i) (a2 i) = w at h' ⊢
      obtain ⟨p', k', r', ls', lv', a1', a2', a3', a4'⟩ := w
      exact nm_r (nI_1 i) (ih (i + 1) (p', k', r', ls', lv', a1', a2', a3', a4') (by omega) h')
theorem fd_w_build {post : St2 → Prop} {V : Int32 → Int32} (hV : fd_hom V) (u : St2) (x : Int32) (h : post (fd_im V (fd_build u x))) : wpX_build post (fd_im V u) x := by
  obtain ⟨p, k, r, ls, lv, a1, a2, a3, a4⟩ := u
  unfold wpX_build
  refine fd_w_clear hV (p, k, r, ls, lv, a1, a2, a3, a4) ?_
  exact ⟨11, fd_w_bld hV x 10 0 (fd_clear (p, k, r, ls, lv, a1, a2, a3, a4)) rfl h⟩
theorem fd_w_learn {post : St2 → Prop} {V : Int32 → Int32} (hV : fd_hom V) (u : St2) (h : post (fd_im V (fd_learn u))) : wpX_learn post (fd_im V u) := by
  obtain ⟨p, k, r, ls, lv, a1, a2, a3, a4⟩ := u
  refine br_c (fun hk => ?_) (fun hk => ?_)
  · rw [fd_learn, if_pos hk] at h
    refine fd_w_build hV (p, 1, r, ls, lv, a1, a2, a3, a4) p ?_
    have h' : post (fd_im V (fd_build (p, 1, r, ls, lv, a1, a2, a3, a4) p)) := h
    generalize fd_build (p, 1, r, ls, lv, a1, a2, a3, a4) p = w at h' ⊢
    obtain ⟨p', k', r', ls', lv', a1', a2', a3', a4'⟩ := w
    exact h'
  · rw [fd_learn, if_neg hk] at h
    exact h
end
section
theorem fd_w_78 {post : Int32 → St2 → Prop} {V : Int32 → Int32} (hV : fd_hom V) (p kn r ls lv : Int32) (a1 a2 a3 a4 : Nat → Int32) (s m : Int32) (k : Nat) (hk : k < 10) (h : post (nI k) (fd_im V (fd_incl (fd_put (p, kn, r, ls, lv, a1, a2, a3, a4) k s m) s m))) : wX_take_78 post s (V m) (nI k) p kn r ls (V lv) a1 (fun j => V (a2 j)) a3 (fun j => V (a4 j)) := by
  have hc := nI_clamp (show k < 2 ^ 31 by omega)
  have e2 : upd (fun j => V (a2 j)) k (V m).toInt16.toInt32 = fun j => V (upd a2 k m j) := by
    rw [hV.2.2.1, fd_upV]
  refine nm_e ⟨pk_in k 10 hk, nm_r (e' := upd a1 k s.toInt16.toInt32) (by rw [hc]) ⟨pk_in k 10 hk, nm_r (e' := fun j => V (upd a2 k m j)) (by rw [hc]; exact e2) ?_⟩⟩
  refine fd_w_incl hV (fd_put (p, kn, r, ls, lv, a1, a2, a3, a4) k s m) s m ?_
  generalize fd_incl (fd_put (p, kn, r, ls, lv, a1, a2, a3, a4) k s m) s m = w at h ⊢
  obtain ⟨p', k', r', ls', lv', a1', a2', a3', a4'⟩ := w
  exact h
theorem fd_w_42 {post : Int32 → St2 → Prop} {V : Int32 → Int32} (hV : fd_hom V) (p kn r ls lv : Int32) (a1 a2 a3 a4 : Nat → Int32) (s m : Int32) (k : Nat) (hk : k ≤ 10)
    (hz : fd_ls (fd_reduce (fd_learn (p, kn, r, ls, lv, a1, a2, a3, a4)) s m) = 0 → V (fd_lv (fd_reduce (fd_learn (p, kn, r, ls, lv, a1, a2, a3, a4)) s m)) = 0 → fd_lv (fd_reduce (fd_learn (p, kn, r, ls, lv, a1, a2, a3, a4)) s m) = 0)
    (h0 : k = 10 → post (-2) (fd_im V (p, kn, r, ls, lv, a1, a2, a3, a4)))
    (h1 : ¬ k = 10 → fd_ls (fd_reduce (fd_learn (p, kn, r, ls, lv, a1, a2, a3, a4)) s m) = 0 ∧ ¬ fd_lv (fd_reduce (fd_learn (p, kn, r, ls, lv, a1, a2, a3, a4)) s m) = 0 → post (-3) (fd_im V (fd_reduce (fd_learn (p, kn, r, ls, lv, a1, a2, a3, a4)) s m)))
    (h2 : ¬ k = 10 → ¬ (fd_ls (fd_reduce (fd_learn (p, kn, r, ls, lv, a1, a2, a3, a4)) s m) = 0 ∧ ¬ fd_lv (fd_reduce (fd_learn (p, kn, r, ls, lv, a1, a2, a3, a4)) s m) = 0) → post (nI k) (fd_im V (fd_incl (fd_put (fd_reduce (fd_learn (p, kn, r, ls, lv, a1, a2, a3, a4)) s m) k s m) s m))) :
    wX_take_42 post s (V m) (nI k) p kn r ls (V lv) a1 (fun j => V (a2 j)) a3 (fun j => V (a4 j)) := by
  unfold wX_take_42
  refine pk_eq k 10 (fun hk => h0 hk) (fun hk => ?_)
  refine fd_w_learn hV (p, kn, r, ls, lv, a1, a2, a3, a4) ?_
  generalize fd_learn (p, kn, r, ls, lv, a1, a2, a3, a4) = w at hz h1 h2 ⊢
  obtain ⟨p', k', r', ls', lv', a1', a2', a3', a4'⟩ := w
  refine fd_w_reduce hV (p', k', r', ls', lv', a1', a2', a3', a4') s m ?_
  generalize fd_reduce (p', k', r', ls', lv', a1', a2', a3', a4') s m = w at hz h1 h2 ⊢
  obtain ⟨p', k', r', ls', lv', a1', a2', a3', a4'⟩ := w
  have hz' : ls' = 0 → V lv' = 0 → lv' = 0 := hz
  have h1' : ls' = 0 ∧ ¬ lv' = 0 → post (-3) (fd_im V (p', k', r', ls', lv', a1', a2', a3', a4')) := h1 hk
  have h2' : ¬ (ls' = 0 ∧ ¬ lv' = 0) → post (nI k) (fd_im V (fd_incl (fd_put (p', k', r', ls', lv', a1', a2', a3', a4') k s m) s m)) := h2 hk
  have hk' : k < 10 := by omega
  refine br_c (fun e => br_c (fun e2 => ?_) (fun e2 => ?_)) (fun e => ?_)
  · exact fd_w_78 hV p' k' r' ls' lv' a1' a2' a3' a4' s m k hk' (h2' (fun z => z.2 (hz' e e2)))
  · exact h1' ⟨e, fun z => e2 (by rw [z]; exact hV.1)⟩
  · exact fd_w_78 hV p' k' r' ls' lv' a1' a2' a3' a4' s m k hk' (h2' (fun z => e z.1))
theorem fd_w_22 {post : Int32 → St2 → Prop} {V : Int32 → Int32} (p kn r ls lv : Int32) (a1 a2 a3 a4 : Nat → Int32) (s m : Int32) : ∀ n i, i + n = 10 → wX_take_42 post s (V m) (nI (fd_find p n i)) p kn r ls (V lv) a1 (fun j => V (a2 j)) a3 (fun j => V (a4 j)) → wX_take_22 post s (V m) p kn r ls (V lv) a1 (fun j => V (a2 j)) a3 (fun j => V (a4 j)) (n + 1) (nI i) := by
  intro n
  induction n with
  | zero =>
    intro i hi h
    have e : i = 10 := by omega
    subst e
    exact br_t (nI_le (a := 10) (Nat.le_refl 10) (by decide)) h
  | succ n ih =>
    intro i hi h
    refine br_f (nI_ge (b := 10) (by omega) (by decide)) (br_f (nI_pos (by omega)) (br_f (nI_ge (b := 10) (by omega) (by decide)) (br_c (fun hb => br_t rfl ?_) (fun hb => br_f (by decide) (nm_r (nI_1 i) (ih (i + 1) (by omega) ?_))))))
    · rw [fd_find, if_pos hb] at h
      exact h
    · rw [fd_find, if_neg hb] at h
      exact h
theorem fd_w_take {post : Int32 → St2 → Prop} {V : Int32 → Int32} (hV : fd_hom V) (u : St2) (s m : Int32) (hs : ¬ s < 1) (hs' : ¬ 255 < s)
    (hz : fd_ls (fd_reduce (fd_learn u) s m) = 0 → V (fd_lv (fd_reduce (fd_learn u) s m)) = 0 → fd_lv (fd_reduce (fd_learn u) s m) = 0)
    (h : post (fd_take u s m).1 (fd_im V (fd_take u s m).2)) : wpX_take post (fd_im V u) s (V m) := by
  obtain ⟨p, k, r, ls, lv, a1, a2, a3, a4⟩ := u
  refine br_f hs (br_f hs' (br_f (by decide) (br_f (hV.2.2.2.1 m) (br_t (hV.2.2.2.2 m) ⟨11, fd_w_22 p k r ls lv a1 a2 a3 a4 s m 10 0 rfl ?_⟩))))
  refine fd_w_42 hV p k r ls lv a1 a2 a3 a4 s m (fd_find p 10 0) (fd_find_le p 10 0) hz (fun e => ?_) (fun e e2 => ?_) (fun e e2 => ?_)
  · rw [fd_take, if_pos e] at h
    exact h
  · rw [fd_take, if_neg e, if_pos e2] at h
    exact h
  · rw [fd_take, if_neg e, if_neg e2] at h
    exact h
theorem fd_w_sg {post : Int32 → Prop} (p kn r ls lv : Int32) (a1 a2 a3 a4 : Nat → Int32) : ∀ (n i : Nat) (x : Int32), i + n = 8 → post (fd_sg a3 n i x) → wX_singles_4 post p kn r ls lv a1 a2 a3 a4 (n + 1) x (nI i) := by
  intro n
  induction n with
  | zero =>
    intro i x hi h
    have e : i = 8 := by omega
    subst e
    exact br_t (nI_le (a := 8) (Nat.le_refl 8) (by decide)) h
  | succ n ih =>
    intro i x hi h
    refine br_f (nI_ge (b := 8) (by omega) (by decide)) ⟨pk_in i 8 (by omega), ?_⟩
    rw [nI_clamp (show i < 2 ^ 31 by omega)]
    refine br_c (fun hb => nm_e (nm_r (nI_1 i) (ih (i + 1) _ (by omega) ?_))) (fun hb => nm_e (nm_r (nI_1 i) (ih (i + 1) _ (by omega) ?_)))
    · rw [fd_sg, if_pos hb] at h
      exact h
    · rw [fd_sg, if_neg hb] at h
      exact h
theorem fd_w_known {post : Int32 → St2 → Prop} {V : Int32 → Int32} (hV : fd_hom V) (u : St2) (h : post (fd_sg (fd_R (fd_learn u)) 8 0 0) (fd_im V (fd_learn u))) : wpX_known post (fd_im V u) := by
  obtain ⟨p, k, r, ls, lv, a1, a2, a3, a4⟩ := u
  unfold wpX_known
  refine fd_w_learn hV (p, k, r, ls, lv, a1, a2, a3, a4) ?_
  generalize fd_learn (p, k, r, ls, lv, a1, a2, a3, a4) = w at h ⊢
  obtain ⟨p', k', r', ls', lv', a1', a2', a3', a4'⟩ := w
  exact ⟨9, fd_w_sg p' k' r' ls' (V lv') a1' _ a3' _ 8 0 0 rfl h⟩
theorem fd_w_piece {post : Int32 → St2 → Prop} {V : Int32 → Int32} (hV : fd_hom V) (u : St2) (h : post (if fd_R (fd_learn u) 3 = ((1 : Int32) <<< ((3 : Int32) &&& 31)) then V (fd_W (fd_learn u) 3) else -1) (fd_im V (fd_learn u))) : wpX_piece post (fd_im V u) 3 := by
  obtain ⟨p, k, r, ls, lv, a1, a2, a3, a4⟩ := u
  refine br_f (by decide) (br_t (by decide) ?_)
  refine fd_w_learn hV (p, k, r, ls, lv, a1, a2, a3, a4) ?_
  generalize fd_learn (p, k, r, ls, lv, a1, a2, a3, a4) = w at h ⊢
  obtain ⟨p', k', r', ls', lv', a1', a2', a3', a4'⟩ := w
  have hc : (3 : Int32).toNatClampNeg = 3 := by decide
  refine ⟨vp_in_iff.mpr (by decide), ?_⟩
  rw [hc]
  refine br_c (fun e => ⟨vp_in_iff.mpr (by decide), ?_⟩) (fun e => ?_)
  · rw [if_pos (show fd_R (p', k', r', ls', lv', a1', a2', a3', a4') 3 = _ from e)] at h
    exact h
  · rw [if_neg (show ¬ fd_R (p', k', r', ls', lv', a1', a2', a3', a4') 3 = _ from e)] at h
    exact h
theorem fd_w_sum {post : Int32 → St2 → Prop} {V : Int32 → Int32} (hV : fd_hom V) (u : St2) (h : post (if fd_ls (fd_reduce (fd_learn u) 5 0) = 0 then V (fd_lv (fd_reduce (fd_learn u) 5 0)) else -1) (fd_im V (fd_reduce (fd_learn u) 5 0))) : wpX_sum post (fd_im V u) 5 := by
  obtain ⟨p, k, r, ls, lv, a1, a2, a3, a4⟩ := u
  refine br_f (by decide) (br_t (by decide) ?_)
  refine fd_w_learn hV (p, k, r, ls, lv, a1, a2, a3, a4) ?_
  generalize fd_learn (p, k, r, ls, lv, a1, a2, a3, a4) = w at h ⊢
  obtain ⟨p', k', r', ls', lv', a1', a2', a3', a4'⟩ := w
  have t := fun (q : St2 → Prop) (g : q (fd_im V (fd_reduce (p', k', r', ls', lv', a1', a2', a3', a4') 5 0))) => fd_w_reduce (post := q) hV (p', k', r', ls', lv', a1', a2', a3', a4') 5 0 g
  rw [hV.1] at t
  refine t _ ?_
  generalize fd_reduce (p', k', r', ls', lv', a1', a2', a3', a4') 5 0 = w at h ⊢
  obtain ⟨p', k', r', ls', lv', a1', a2', a3', a4'⟩ := w
  refine br_c (fun e => ?_) (fun e => ?_)
  · rw [if_pos (show fd_ls (p', k', r', ls', lv', a1', a2', a3', a4') = 0 from e)] at h
    exact h
  · rw [if_neg (show ¬ fd_ls (p', k', r', ls', lv', a1', a2', a3', a4') = 0 from e)] at h
    exact h
theorem fd_w_rankOf {post : Int32 → St2 → Prop} {V : Int32 → Int32} (hV : fd_hom V) (u : St2) (x : Int32) (h : post (fd_rank (fd_rankOf u x)) (fd_im V (fd_rankOf u x))) : wpX_rankOf post (fd_im V u) x := by
  obtain ⟨p, k, r, ls, lv, a1, a2, a3, a4⟩ := u
  unfold wpX_rankOf
  refine fd_w_build hV (p, 0, r, ls, lv, a1, a2, a3, a4) (x &&& p) ?_
  have h' : post (fd_rank (fd_build (p, 0, r, ls, lv, a1, a2, a3, a4) (x &&& p))) (fd_im V (fd_build (p, 0, r, ls, lv, a1, a2, a3, a4) (x &&& p))) := h
  generalize fd_build (p, 0, r, ls, lv, a1, a2, a3, a4) (x &&& p) = w at h' ⊢
  obtain ⟨p', k', r', ls', lv', a1', a2', a3', a4'⟩ := w
  exact h'
theorem fd_w_enough {post : Int32 → St2 → Prop} {V : Int32 → Int32} (hV : fd_hom V) (u : St2) (x : Int32) (h : post (if fd_rank (fd_rankOf (fd_rankOf u u.1) x) = fd_rank (fd_rankOf u u.1) then 1 else 0) (fd_im V (fd_rankOf (fd_rankOf u u.1) x))) : wpX_enough post (fd_im V u) x := by
  obtain ⟨p, k, r, ls, lv, a1, a2, a3, a4⟩ := u
  unfold wpX_enough
  refine fd_w_rankOf hV (p, k, r, ls, lv, a1, a2, a3, a4) p ?_
  have h' : post (if fd_rank (fd_rankOf (fd_rankOf (p, k, r, ls, lv, a1, a2, a3, a4) p) x) = fd_rank (fd_rankOf (p, k, r, ls, lv, a1, a2, a3, a4) p) then 1 else 0) (fd_im V (fd_rankOf (fd_rankOf (p, k, r, ls, lv, a1, a2, a3, a4) p) x)) := h
  clear h
  generalize fd_rankOf (p, k, r, ls, lv, a1, a2, a3, a4) p = w at h' ⊢
  obtain ⟨p1, k1, r1, ls1, lv1, b1, b2, b3, b4⟩ := w
  refine fd_w_rankOf hV (p1, k1, r1, ls1, lv1, b1, b2, b3, b4) x ?_
  generalize fd_rankOf (p1, k1, r1, ls1, lv1, b1, b2, b3, b4) x = w at h' ⊢
  obtain ⟨p2, k2, r2, ls2, lv2, c1, c2, c3, c4⟩ := w
  have h'' : post (if r2 = r1 then 1 else 0) (fd_im V (p2, k2, r2, ls2, lv2, c1, c2, c3, c4)) := h'
  refine br_c (fun e => ?_) (fun e => ?_)
  · rw [if_pos (show r2 = r1 from e)] at h''
    exact h''
  · rw [if_neg (show ¬ r2 = r1 from e)] at h''
    exact h''
/-- idle of drop 0, which is kept -/
theorem fd_w_idle {post : Int32 → St2 → Prop} {V : Int32 → Int32} (hV : fd_hom V) (u : St2) (hp : ¬ ((u.1 >>> ((0 : Int32) &&& 31)) &&& 1) = 0) (h : ∀ w, post (if fd_rank (fd_rankOf (fd_rankOf u u.1) (u.1 &&& (((1 : Int32) <<< ((0 : Int32) &&& 31)) ^^^ (-1)))) = fd_rank (fd_rankOf u u.1) then 1 else 0) w) : wpX_idle post (fd_im V u) 0 := by
  obtain ⟨p, k, r, ls, lv, a1, a2, a3, a4⟩ := u
  refine br_f (by decide) (br_f (by decide) (br_f hp (br_f (by decide) ?_)))
  refine fd_w_enough hV (p, k, r, ls, lv, a1, a2, a3, a4) _ ?_
  generalize fd_rankOf (fd_rankOf (p, k, r, ls, lv, a1, a2, a3, a4) (p, k, r, ls, lv, a1, a2, a3, a4).1) _ = w at h ⊢
  obtain ⟨p2, k2, r2, ls2, lv2, c1, c2, c3, c4⟩ := w
  by_cases e : fd_rank (p2, k2, r2, ls2, lv2, c1, c2, c3, c4) = fd_rank (fd_rankOf (p, k, r, ls, lv, a1, a2, a3, a4) (p, k, r, ls, lv, a1, a2, a3, a4).1)
  · rw [if_pos e] at h ⊢
    exact br_f (by decide) (h _)
  · rw [if_neg e] at h ⊢
    exact br_t rfl (h _)
end
section
/-- one given value, if the mask's bit is set -/
def fd_g (a : Int32) (i : Nat) (m : Int32) : Int32 := if m.toBitVec.getLsbD i = true then a else 0
def fd_V (a b c d : Int32) (m : Int32) : Int32 := fd_g a 0 m ^^^ (fd_g b 1 m ^^^ (fd_g c 2 m ^^^ fd_g d 3 m))
theorem fd_g_x (a : Int32) (i : Nat) (x y : Int32) : fd_g a i (x ^^^ y) = fd_g a i x ^^^ fd_g a i y := by
  unfold fd_g
  rw [Int32.toBitVec_xor, BitVec.getLsbD_xor]
  cases x.toBitVec.getLsbD i <;> cases y.toBitVec.getLsbD i <;> simp
theorem fd_x4 (a b c d e f g h : Int32) : (a ^^^ b) ^^^ ((c ^^^ d) ^^^ ((e ^^^ f) ^^^ (g ^^^ h))) = (a ^^^ (c ^^^ (e ^^^ g))) ^^^ (b ^^^ (d ^^^ (f ^^^ h))) := by
  ac_rfl
theorem fd_V_x (a b c d x y : Int32) : fd_V a b c d (x ^^^ y) = fd_V a b c d x ^^^ fd_V a b c d y := by
  unfold fd_V
  rw [fd_g_x, fd_g_x, fd_g_x, fd_g_x, fd_x4]
/-- a byte -/
def fd_byte (x : Int32) : Prop := ∃ j : Nat, j < 256 ∧ x = nI j
theorem fd_byte_and (x : Int32) : fd_byte (x &&& 255) := pk_andE x 8 (by decide)
theorem fd_byte_0 : fd_byte 0 := ⟨0, by decide, rfl⟩
theorem fd_nI_x (i j : Nat) : nI i ^^^ nI j = nI (i ^^^ j) := by
  apply Int32.toBitVec_inj.mp
  rw [Int32.toBitVec_xor]
  show BitVec.ofNat 32 i ^^^ BitVec.ofNat 32 j = BitVec.ofNat 32 (i ^^^ j)
  exact (BitVec.ofNat_xor ..).symm
theorem fd_byte_x {x y : Int32} (hx : fd_byte x) (hy : fd_byte y) : fd_byte (x ^^^ y) := by
  obtain ⟨i, hi, rfl⟩ := hx
  obtain ⟨j, hj, rfl⟩ := hy
  exact ⟨i ^^^ j, Nat.xor_lt_two_pow (n := 8) hi hj, fd_nI_x i j⟩
theorem fd_byte_g {a : Int32} (ha : fd_byte a) (i : Nat) (m : Int32) : fd_byte (fd_g a i m) := by
  unfold fd_g
  by_cases h : m.toBitVec.getLsbD i = true
  · rw [if_pos h]
    exact ha
  · rw [if_neg h]
    exact fd_byte_0
theorem fd_bytes : ∀ j, j < 256 → (nI j).toInt16.toInt32 = nI j ∧ ¬ nI j < 0 ∧ nI j ≤ 255 := by decide +kernel
theorem fd_byte_V {a b c d : Int32} (ha : fd_byte a) (hb : fd_byte b) (hc : fd_byte c) (hd : fd_byte d) (m : Int32) : fd_byte (fd_V a b c d m) :=
  fd_byte_x (fd_byte_g ha 0 m) (fd_byte_x (fd_byte_g hb 1 m) (fd_byte_x (fd_byte_g hc 2 m) (fd_byte_g hd 3 m)))
theorem fd_V_0 (a b c d : Int32) : fd_V a b c d 0 = 0 := by
  have e : ∀ (x : Int32) (i : Nat), fd_g x i 0 = 0 := fun x i => by
    unfold fd_g
    rw [show (0 : Int32).toBitVec = 0#32 from rfl, BitVec.getLsbD_zero]
    rfl
  unfold fd_V
  rw [e, e, e, e]
  rfl
theorem fd_V_hom {a b c d : Int32} (ha : fd_byte a) (hb : fd_byte b) (hc : fd_byte c) (hd : fd_byte d) : fd_hom (fd_V a b c d) := by
  have k : ∀ m, (fd_V a b c d m).toInt16.toInt32 = fd_V a b c d m ∧ ¬ fd_V a b c d m < 0 ∧ fd_V a b c d m ≤ 255 := fun m => by
    obtain ⟨j, hj, e⟩ := fd_byte_V ha hb hc hd m
    rw [e]
    exact fd_bytes j hj
  exact ⟨fd_V_0 a b c d, fd_V_x a b c d, fun m => (k m).1, fun m => (k m).2.1, fun m => (k m).2.2⟩
theorem fd_g_t (a : Int32) {i : Nat} {m : Int32} (h : m.toBitVec.getLsbD i = true) : fd_g a i m = a := if_pos h
theorem fd_g_f (a : Int32) {i : Nat} {m : Int32} (h : ¬ m.toBitVec.getLsbD i = true) : fd_g a i m = 0 := if_neg h
theorem fd_V_1 (a b c d : Int32) : fd_V a b c d 1 = a := by
  unfold fd_V
  rw [fd_g_t a (by decide), fd_g_f b (by decide), fd_g_f c (by decide), fd_g_f d (by decide)]
  simp
theorem fd_V_2 (a b c d : Int32) : fd_V a b c d 2 = b := by
  unfold fd_V
  rw [fd_g_f a (by decide), fd_g_t b (by decide), fd_g_f c (by decide), fd_g_f d (by decide)]
  simp
theorem fd_V_4 (a b c d : Int32) : fd_V a b c d 4 = c := by
  unfold fd_V
  rw [fd_g_f a (by decide), fd_g_f b (by decide), fd_g_t c (by decide), fd_g_f d (by decide)]
  simp
theorem fd_V_8 (a b c d : Int32) : fd_V a b c d 8 = d := by
  unfold fd_V
  rw [fd_g_f a (by decide), fd_g_f b (by decide), fd_g_f c (by decide), fd_g_t d (by decide)]
  simp
end
section
/-- the runs over pictures: the masks 1, 2, m, 8 stand for the four values -/
def fd_s1 : St2 := (fd_take fd_u0 3 1).2
def fd_s2 : St2 := (fd_take fd_s1 6 2).2
def fd_s3 (s m : Int32) : St2 := (fd_take fd_s2 s m).2
def fd_s4 (s m : Int32) : St2 := (fd_take (fd_s3 s m) 1 8).2
/-- known, piece and sum read this state -/
def fd_s5 (s m : Int32) : St2 := fd_learn (fd_s4 s m)
def fd_s6 (s m : Int32) : St2 := fd_learn (fd_s5 s m)
def fd_s7 (s m : Int32) : St2 := fd_reduce (fd_learn (fd_s6 s m)) 5 0
def fd_idl (s m : Int32) : Int32 := if fd_rank (fd_rankOf (fd_rankOf (fd_s7 s m) (fd_s7 s m).1) ((fd_s7 s m).1 &&& (((1 : Int32) <<< ((0 : Int32) &&& 31)) ^^^ (-1)))) = fd_rank (fd_rankOf (fd_s7 s m) (fd_s7 s m).1) then 1 else 0
theorem fd_r1 : ¬ fd_ls (fd_reduce (fd_learn fd_u0) 3 1) = 0 := by decide +kernel
theorem fd_r2 : ¬ fd_ls (fd_reduce (fd_learn fd_s1) 6 2) = 0 := by decide +kernel
theorem fd_ro3 : ¬ fd_ls (fd_reduce (fd_learn fd_s2) 12 4) = 0 ∧ (fd_take fd_s2 12 4).1 = 2 := by decide +kernel
theorem fd_ro4 : ¬ fd_ls (fd_reduce (fd_learn (fd_s3 12 4)) 1 8) = 0 ∧ (fd_take (fd_s3 12 4) 1 8).1 = 3 := by decide +kernel
theorem fd_ro5 : fd_sg (fd_R (fd_s5 12 4)) 8 0 0 = 15 := by decide +kernel
theorem fd_ro6 : fd_R (fd_s6 12 4) 3 = ((1 : Int32) <<< ((3 : Int32) &&& 31)) ∧ fd_W (fd_s6 12 4) 3 = 15 := by decide +kernel
theorem fd_ro7 : fd_ls (fd_s7 12 4) = 0 ∧ fd_lv (fd_s7 12 4) = 3 ∧ ¬ (((fd_s7 12 4).1 >>> ((0 : Int32) &&& 31)) &&& 1) = 0 := by decide +kernel
theorem fd_ro8 : fd_idl 12 4 = 0 := by decide +kernel
theorem fd_rf3 : fd_lv (fd_reduce (fd_learn fd_s2) 5 3) = 0 ∧ (fd_take fd_s2 5 3).1 = 2 := by decide +kernel
theorem fd_rf4 : ¬ fd_ls (fd_reduce (fd_learn (fd_s3 5 3)) 1 8) = 0 ∧ (fd_take (fd_s3 5 3) 1 8).1 = 3 := by decide +kernel
theorem fd_rf5 : fd_sg (fd_R (fd_s5 5 3)) 8 0 0 = 7 := by decide +kernel
theorem fd_rf6 : ¬ fd_R (fd_s6 5 3) 3 = ((1 : Int32) <<< ((3 : Int32) &&& 31)) := by decide +kernel
theorem fd_rf7 : fd_ls (fd_s7 5 3) = 0 ∧ fd_lv (fd_s7 5 3) = 3 ∧ ¬ (((fd_s7 5 3).1 >>> ((0 : Int32) &&& 31)) &&& 1) = 0 := by decide +kernel
theorem fd_rf8 : fd_idl 5 3 = 1 := by decide +kernel
theorem fd_ru3 : fd_lv (fd_reduce (fd_learn fd_s2) 5 4) = 7 ∧ (fd_take fd_s2 5 4).1 = -3 := by decide +kernel
theorem fd_ru4 : ¬ fd_ls (fd_reduce (fd_learn (fd_s3 5 4)) 1 8) = 0 ∧ (fd_take (fd_s3 5 4) 1 8).1 = 2 := by decide +kernel
theorem fd_ru5 : fd_sg (fd_R (fd_s5 5 4)) 8 0 0 = 7 := by decide +kernel
theorem fd_ru6 : ¬ fd_R (fd_s6 5 4) 3 = ((1 : Int32) <<< ((3 : Int32) &&& 31)) := by decide +kernel
theorem fd_ru7 : fd_ls (fd_s7 5 4) = 0 ∧ fd_lv (fd_s7 5 4) = 3 ∧ ¬ (((fd_s7 5 4).1 >>> ((0 : Int32) &&& 31)) &&& 1) = 0 := by decide +kernel
theorem fd_ru8 : fd_idl 5 4 = 0 := by decide +kernel
end
section
theorem fd_118 {post : Int32 → St0 → Prop} {V : Int32 → Int32} (hV : fd_hom V) (mc ms kc ks : Nat) (u u4 u5 u6 u7 : St2) (x6 x7 x8 x10 x11 z0 r4 r5 r6 r7 r8 : Int32)
    (hz : ¬ fd_ls (fd_reduce (fd_learn u) 1 8) = 0) (h4 : fd_take u 1 8 = (r4, u4))
    (h5 : fd_learn u4 = u5) (h5' : fd_sg (fd_R u5) 8 0 0 = r5)
    (h6 : fd_learn u5 = u6) (h6' : (if fd_R u6 3 = ((1 : Int32) <<< ((3 : Int32) &&& 31)) then V (fd_W u6 3) else -1) = r6)
    (h7 : fd_reduce (fd_learn u6) 5 0 = u7) (h7' : (if fd_ls u7 = 0 then V (fd_lv u7) else -1) = r7)
    (hp : ¬ ((u7.1 >>> ((0 : Int32) &&& 31)) &&& 1) = 0)
    (h8 : (if fd_rank (fd_rankOf (fd_rankOf u7 u7.1) (u7.1 &&& (((1 : Int32) <<< ((0 : Int32) &&& 31)) ^^^ (-1)))) = fd_rank (fd_rankOf u7 u7.1) then (1 : Int32) else 0) = r8)
    (H : (z0 = 0 → wL_lawOf_174 post mc ms x6 x7 x8 (V 8) x10 z0 r4 r5 r6 r7 r8 (-3) x11 kc ks) ∧ (¬ z0 = 0 → wL_lawOf_174 post mc ms x6 x7 x8 (V 8) x10 z0 r4 r5 r6 r7 r8 2 x11 kc ks)) :
    wL_lawOf_118 post mc ms x6 x7 x8 (V 8) x10 x11 z0 kc ks u.1 u.2.1 u.2.2.1 u.2.2.2.1 (V u.2.2.2.2.1) u.2.2.2.2.2.1 (fun j => V (u.2.2.2.2.2.2.1 j)) u.2.2.2.2.2.2.2.1 (fun j => V (u.2.2.2.2.2.2.2.2 j)) := by
  obtain ⟨q0, q1, q2, q3, q4, qa, qb, qc, qd⟩ := u
  obtain ⟨q40, q41, q42, q43, q44, q4a, q4b, q4c, q4d⟩ := u4
  obtain ⟨q50, q51, q52, q53, q54, q5a, q5b, q5c, q5d⟩ := u5
  obtain ⟨q60, q61, q62, q63, q64, q6a, q6b, q6c, q6d⟩ := u6
  obtain ⟨q70, q71, q72, q73, q74, q7a, q7b, q7c, q7d⟩ := u7
  unfold wL_lawOf_118
  refine fd_w_take hV (q0, q1, q2, q3, q4, qa, qb, qc, qd) 1 8 (by decide) (by decide) (fun z => absurd z hz) ?_
  rw [h4]
  refine fd_w_known hV (q40, q41, q42, q43, q44, q4a, q4b, q4c, q4d) ?_
  rw [h5, h5']
  refine fd_w_piece hV (q50, q51, q52, q53, q54, q5a, q5b, q5c, q5d) ?_
  rw [h6, h6']
  refine fd_w_sum hV (q60, q61, q62, q63, q64, q6a, q6b, q6c, q6d) ?_
  rw [h7, h7']
  refine fd_w_idle hV (q70, q71, q72, q73, q74, q7a, q7b, q7c, q7d) hp (fun w => ?_)
  rw [h8]
  obtain ⟨w0, w1, w2, w3, w4, wa, wb, wc, wd⟩ := w
  exact H
theorem fd_50 {post : Int32 → St0 → Prop} {V : Int32 → Int32} (hV : fd_hom V) (mc ms kc ks : Nat) (s m z r3 : Int32) (hs : z = 0 ∧ s = 12 ∨ ¬ z = 0 ∧ s = 5)
    (hz : fd_ls (fd_reduce (fd_learn fd_s2) s m) = 0 → V (fd_lv (fd_reduce (fd_learn fd_s2) s m)) = 0 → fd_lv (fd_reduce (fd_learn fd_s2) s m) = 0)
    (h3 : (fd_take fd_s2 s m).1 = r3)
    (H : wL_lawOf_96 post mc ms (V 1) (V 2) (V m) (V 8) z r3 kc ks (fd_s3 s m).1 (fd_s3 s m).2.1 (fd_s3 s m).2.2.1 (fd_s3 s m).2.2.2.1 (V (fd_s3 s m).2.2.2.2.1) (fd_s3 s m).2.2.2.2.2.1 (fun j => V ((fd_s3 s m).2.2.2.2.2.2.1 j)) (fd_s3 s m).2.2.2.2.2.2.2.1 (fun j => V ((fd_s3 s m).2.2.2.2.2.2.2.2 j))) :
    wL_lawOf_50 post mc ms (V 1) (V 2) (V m) (V 8) z kc ks 0 0 0 0 0 (fun _ => 0) (fun _ => 0) (fun _ => 0) (fun _ => 0) := by
  have h3' : fd_take fd_s2 s m = (r3, fd_s3 s m) := Prod.ext h3 rfl
  have h2' : fd_take fd_s1 6 2 = ((fd_take fd_s1 6 2).1, fd_s2) := rfl
  have h1' : fd_take fd_u0 3 1 = ((fd_take fd_u0 3 1).1, fd_s1) := rfl
  have hr1 := fd_r1
  have hr2 := fd_r2
  generalize fd_s3 s m = u3 at h3' H
  generalize (fd_take fd_s1 6 2).1 = r2 at h2'
  generalize (fd_take fd_u0 3 1).1 = r1 at h1'
  generalize fd_s2 = u2 at h3' h2' hz
  generalize fd_s1 = u1 at h2' h1' hr2
  obtain ⟨q10, q11, q12, q13, q14, q1a, q1b, q1c, q1d⟩ := u1
  obtain ⟨q20, q21, q22, q23, q24, q2a, q2b, q2c, q2d⟩ := u2
  obtain ⟨q30, q31, q32, q33, q34, q3a, q3b, q3c, q3d⟩ := u3
  have e0 : fd_im V fd_u0 = fd_u0 := by
    show ((0, 0, 0, 0, V 0, fun _ => 0, fun _ => V 0, fun _ => 0, fun _ => V 0) : St2) = fd_u0
    rw [hV.1]
    rfl
  have t := fun (q : Int32 → St2 → Prop) (g : q (fd_take fd_u0 3 1).1 (fd_im V (fd_take fd_u0 3 1).2)) => fd_w_take (post := q) hV fd_u0 3 1 (by decide) (by decide) (fun z => absurd z hr1) g
  rw [e0] at t
  unfold wL_lawOf_50
  refine t _ ?_
  rw [h1']
  refine fd_w_take hV (q10, q11, q12, q13, q14, q1a, q1b, q1c, q1d) 6 2 (by decide) (by decide) (fun z => absurd z hr2) ?_
  rw [h2']
  rcases hs with ⟨e, rfl⟩ | ⟨e, rfl⟩
  · refine br_t e (fd_w_take hV (q20, q21, q22, q23, q24, q2a, q2b, q2c, q2d) 12 m (by decide) (by decide) hz ?_)
    rw [h3']
    exact H
  · refine br_f e (fd_w_take hV (q20, q21, q22, q23, q24, q2a, q2b, q2c, q2d) 5 m (by decide) (by decide) hz ?_)
    rw [h3']
    exact H
theorem fd_V3 {V : Int32 → Int32} (hV : fd_hom V) : V 3 = V 1 ^^^ V 2 := by
  rw [← hV.2.1]
  exact congrArg V (by decide)
theorem fd_V15 {V : Int32 → Int32} (hV : fd_hom V) : V 15 = ((V 8 ^^^ V 1) ^^^ V 2) ^^^ V 4 := by
  rw [← hV.2.1, ← hV.2.1, ← hV.2.1]
  exact congrArg V (by decide)
theorem fd_V7 {V : Int32 → Int32} (hV : fd_hom V) : V 7 = V 4 ^^^ (V 1 ^^^ V 2) := by
  rw [← hV.2.1, ← hV.2.1]
  exact congrArg V (by decide)
theorem fd_one : ¬ (1 : Int32) = 0 := by decide
theorem fd_chain {post : Int32 → St0 → Prop} {V : Int32 → Int32} (hV : fd_hom V) (mc ms kc ks : Nat) (s m x10 x11 z0 r4 r5 r6 r7 r8 : Int32)
    (h4 : ¬ fd_ls (fd_reduce (fd_learn (fd_s3 s m)) 1 8) = 0 ∧ (fd_take (fd_s3 s m) 1 8).1 = r4)
    (h5 : fd_sg (fd_R (fd_s5 s m)) 8 0 0 = r5)
    (h6 : (if fd_R (fd_s6 s m) 3 = ((1 : Int32) <<< ((3 : Int32) &&& 31)) then V (fd_W (fd_s6 s m) 3) else -1) = r6)
    (h7 : fd_ls (fd_s7 s m) = 0 ∧ fd_lv (fd_s7 s m) = r7 ∧ ¬ (((fd_s7 s m).1 >>> ((0 : Int32) &&& 31)) &&& 1) = 0)
    (h8 : fd_idl s m = r8)
    (H : (z0 = 0 → wL_lawOf_174 post mc ms (V 1) (V 2) (V m) (V 8) x10 z0 r4 r5 r6 (V r7) r8 (-3) x11 kc ks) ∧ (¬ z0 = 0 → wL_lawOf_174 post mc ms (V 1) (V 2) (V m) (V 8) x10 z0 r4 r5 r6 (V r7) r8 2 x11 kc ks)) :
    wL_lawOf_118 post mc ms (V 1) (V 2) (V m) (V 8) x10 x11 z0 kc ks (fd_s3 s m).1 (fd_s3 s m).2.1 (fd_s3 s m).2.2.1 (fd_s3 s m).2.2.2.1 (V (fd_s3 s m).2.2.2.2.1) (fd_s3 s m).2.2.2.2.2.1 (fun j => V ((fd_s3 s m).2.2.2.2.2.2.1 j)) (fd_s3 s m).2.2.2.2.2.2.2.1 (fun j => V ((fd_s3 s m).2.2.2.2.2.2.2.2 j)) :=
  fd_118 hV mc ms kc ks (fd_s3 s m) (fd_s4 s m) (fd_s5 s m) (fd_s6 s m) (fd_s7 s m) (V 1) (V 2) (V m) x10 x11 z0 r4 r5 r6 (V r7) r8 h4.1 (Prod.ext h4.2 rfl) rfl h5 rfl h6 rfl (by rw [if_pos h7.1, h7.2.1]) h7.2.2 h8 H
theorem fd_open {post : Int32 → St0 → Prop} {V : Int32 → Int32} (hV : fd_hom V) (mc ms kc ks : Nat) (h : post 1 ()) : wL_lawOf_50 post mc ms (V 1) (V 2) (V 4) (V 8) 0 kc ks 0 0 0 0 0 (fun _ => 0) (fun _ => 0) (fun _ => 0) (fun _ => 0) := by
  refine fd_50 hV mc ms kc ks 12 4 0 2 (Or.inl ⟨rfl, rfl⟩) (fun z => absurd z fd_ro3.1) fd_ro3.2 ?_
  refine br_t rfl (fd_chain hV mc ms kc ks 12 4 0 2 1 3 15 (V 15) 3 0 fd_ro4 fd_ro5 (by rw [if_pos fd_ro6.1, fd_ro6.2]) fd_ro7 fd_ro8 ?_)
  exact br_f fd_one (br_t rfl (br_f fd_one (br_t rfl (br_t rfl (br_t rfl (br_t rfl (br_t (fd_V15 hV) (br_t (fd_V3 hV) (br_t rfl (br_t rfl h))))))))))
theorem fd_fit {post : Int32 → St0 → Prop} {V : Int32 → Int32} (hV : fd_hom V) (mc ms kc ks : Nat) (h : post 1 ()) : wL_lawOf_50 post mc ms (V 1) (V 2) (V 3) (V 8) 1 kc ks 0 0 0 0 0 (fun _ => 0) (fun _ => 0) (fun _ => 0) (fun _ => 0) := by
  refine fd_50 hV mc ms kc ks 5 3 1 2 (Or.inr ⟨fd_one, rfl⟩) (fun _ _ => fd_rf3.1) fd_rf3.2 ?_
  refine br_f fd_one (br_t (fd_V3 hV) (fd_chain hV mc ms kc ks 5 3 1 2 1 3 7 (-1) 3 1 fd_rf4 fd_rf5 (if_neg fd_rf6) fd_rf7 fd_rf8 ?_))
  exact br_f fd_one (br_t rfl (br_f fd_one (br_t rfl (br_f fd_one (br_t rfl (br_f fd_one (br_t rfl (br_t (fd_V3 hV) (br_f fd_one (br_f fd_one (br_t rfl h)))))))))))
theorem fd_unfit {post : Int32 → St0 → Prop} {V : Int32 → Int32} (hV : fd_hom V) (mc ms kc ks : Nat) (hn : ¬ V 4 = V 1 ^^^ V 2) (h : post 1 ()) : wL_lawOf_50 post mc ms (V 1) (V 2) (V 4) (V 8) 1 kc ks 0 0 0 0 0 (fun _ => 0) (fun _ => 0) (fun _ => 0) (fun _ => 0) := by
  have h7 : ¬ V 7 = 0 := fun z => hn (Int32.xor_eq_zero_iff.mp ((fd_V7 hV).symm.trans z))
  refine fd_50 hV mc ms kc ks 5 4 1 (-3) (Or.inr ⟨fd_one, rfl⟩) (fun _ z => absurd z (by rw [fd_ru3.1]; exact h7)) fd_ru3.2 ?_
  refine br_f fd_one (br_f hn (fd_chain hV mc ms kc ks 5 4 1 (-3) 0 2 7 (-1) 3 0 fd_ru4 fd_ru5 (if_neg fd_ru6) fd_ru7 fd_ru8 ?_))
  exact br_t rfl (br_t rfl (br_t rfl (br_t rfl (br_f fd_one (br_t rfl (br_f fd_one (br_t rfl (br_t (fd_V3 hV) (br_f fd_one (br_t rfl (br_t rfl h)))))))))))
theorem fd_any {post : Int32 → St0 → Prop} (mc ms kc ks : Nat) {a b c d : Int32} (ha : fd_byte a) (hb : fd_byte b) (hc : fd_byte c) (hd : fd_byte d) (h : post 1 ()) : wL_lawOf_50 post mc ms a b c d 0 kc ks 0 0 0 0 0 (fun _ => 0) (fun _ => 0) (fun _ => 0) (fun _ => 0) ∧ wL_lawOf_50 post mc ms a b c d 1 kc ks 0 0 0 0 0 (fun _ => 0) (fun _ => 0) (fun _ => 0) (fun _ => 0) := by
  have hV := fd_V_hom ha hb hc hd
  have e3 := fd_V3 hV
  rw [fd_V_1, fd_V_2] at e3
  constructor
  · have t := fd_open hV mc ms kc ks h
    rw [fd_V_1, fd_V_2, fd_V_4, fd_V_8] at t
    exact t
  · by_cases e : c = a ^^^ b
    · have t := fd_fit hV mc ms kc ks h
      rw [fd_V_1, fd_V_2, fd_V_8, e3, ← e] at t
      exact t
    · have t := fd_unfit hV mc ms kc ks (by rw [fd_V_1, fd_V_2, fd_V_4]; exact e) h
      rw [fd_V_1, fd_V_2, fd_V_4, fd_V_8] at t
      exact t
theorem fd_lawOf {post : Int32 → St0 → Prop} (p0 p1 p2 p3 p4 : Int32) (h : post 1 ()) : wpL_lawOf post 24 384 () p0 p1 p2 p3 p4 := by
  have t := fd_any (post := post) 24 384 (1 + 4) (9 + 36) (fd_byte_and p0) (fd_byte_and p1) (fd_byte_and p2) (fd_byte_and p3) h
  exact ⟨by decide, by decide, 4, 36, by decide, by decide, by decide, by decide, by decide, by decide, by decide, by decide, by decide, by decide, nm_e (nm_e (nm_e (nm_e (br_c (fun _ => t.2) (fun _ => t.1)))))⟩
theorem fd_cell {post : Int32 → Prop} (L : Nat) (xs : Nat → Int32) (k : Nat) (hL : L ≤ 5) (hk : k ≤ 5) (h : ∀ r, post r) : wpL_cellAt post L xs () (nI k) :=
  pk_le L k (fun _ => h _) (fun z => ⟨vp_in_nI z (by omega), h _⟩)
end
section
theorem i_vc (xs : Nat → Int32) (L : Nat) (hL : L ≤ 5) : wpL_law (fun r => r = 1) L xs :=
  fd_cell L xs 0 hL (by decide) (fun r1 => fd_cell L xs 1 hL (by decide) (fun r2 => fd_cell L xs 2 hL (by decide) (fun r3 => fd_cell L xs 3 hL (by decide) (fun r4 => fd_cell L xs 4 hL (by decide) (fun r5 => ⟨24, 384, by decide, by decide, fd_lawOf r1 r2 r3 r4 r5 rfl⟩)))))
end
