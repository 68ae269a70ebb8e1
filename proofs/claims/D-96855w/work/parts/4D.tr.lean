/-! the trace; a field named through a class below -/
def uT (U : Tta) (t : TR) : Tta := up3 (up3 U 3 1 t.1) 3 2 (fun _ => nI t.2)
theorem uT_1 {U : Tta} {t : TR} : uT U t 3 1 = t.1 := by
  rw [uT, up3_s, up1_n (by decide), up3_s, up1_s]
theorem uT_2 {U : Tta} {t : TR} : uT U t 3 2 = fun _ => nI t.2 := by
  rw [uT, up3_s, up1_s]
theorem uT_n {U : Tta} {t : TR} {a : Nat} (h : a ≠ 3) : uT U t a = U a := by
  rw [uT, up3_n h, up3_n h]
theorem uT_ran {U : Tta} {t : TR} {b : Nat} (h : t.2 < 30) : up3 (up3 (uT U t) 3 2 (fun _ => nI (t.2 + 1))) 3 1 (upd (uT U t 3 1) t.2 (nI b)) = uT U (ran b t) := by
  have e1 : ran b t = (upd t.1 t.2 (nI b), t.2 + 1) := by rw [ran, if_pos h]
  rw [e1, uT_1]
  funext x
  by_cases hx : x = 3
  · subst hx
    funext q
    simp only [up3_s, uT]
    by_cases h1 : q = 1
    · subst h1
      rfl
    · by_cases h2 : q = 2
      · subst h2
        rfl
      · simp [up1, h1, h2]
  · rw [up3_n hx, up3_n hx, uT_n hx, uT_n hx]
section CGS
variable {p : Program} {l : Launch} {e : Env} {R : Room} {s : State} {m : MethodId} {args : Array Value} {below : List Frame} {meth : Method} {c : Code} {H : Heap} {locs : List Loc} {cells slots : Nat} {Q : State → Prop}
variable {cc : ByteArray} {pc nL : Nat} {ls : Array Slot} {rest : List Value} {own : String} {index : Nat}
variable {D : va_G} {cA : Nat → ClassId} {ad : Nat → Nat} {n : Nat} {f0 : Nat → va_E} {U : Nat → Nat → Nat → Int32} {ρ : Nat → Nat → Option Nat} {r : Nat × Nat}
theorem c_getS (hC : CallFix p m c cc nL s args lw_all own) (hK : KC D cA s) (hP : va_P D cl (cw cA ad n f0 U ρ r) H) (k : Nat) (hk : k < n) {ci N : Nat} {C ref : String} {T : u_T} {fs : List Value} (he : wcl cA ad f0 U ρ r k = .inr (ci, fs)) (hc : cl[ci]? = some (C, T, N)) (hin : ∀ w ∈ u_ws C T N, w ∈ lw_all) (fi : Nat) (hfi : fi < N) (hlink : (Cond.fieldLink own index ref (T fi).2.1 (T fi).2.2.1) ∈ lw_all) (hsame : (Cond.sameField ref (T fi).1 (T fi).2.1 (T fi).2.2.1) ∈ lw_all) {v : Value} (hv : fs[fi]? = some v) (hdg : decode cc pc = .ok (.getfield index, 3)) (kk : W p l e R s m args below meth c H locs cells slots Q (F0 m (pc + 3) ls (v :: rest))) : W p l e R s m args below meth c H locs cells slots Q (F0 m pc ls (.ref (ad k) :: rest)) :=
  va_get hC.1 hC.2.1 hC.2.2.2.2 hin hC.2.2.2.1 hK.1 hP k ((gw_at hk).trans (by rw [he])) hc fi hfi (hC.2.2.2.2 _ hlink) (u_same (hC.2.2.2.2 _ hsame)) hv hdg kk
end CGS
