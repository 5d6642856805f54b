/-! calls in predicates; what new objects hold -/
abbrev zcl (C : zO) (k : Nat) (args : List Value) (Y : zY) (σ : zS) (Q : zQ) : Prop := C k args Q Y σ
theorem zdf0 : ∀ j, j < 7 → defaultValue (tyX1 j) = vp_V [va_rf none, va_rf none, va_rf none, va_rf none, .int 0, .int 0, va_rf none] j := fun j hj => match j, hj with
  | 0, _ => rfl
  | 1, _ => rfl
  | 2, _ => rfl
  | 3, _ => rfl
  | 4, _ => rfl
  | 5, _ => rfl
  | 6, _ => rfl
  | j + 7, h => absurd h (by omega)
theorem zdf1 : ∀ j, j < 15 → defaultValue (tyX2 j) = vp_V [va_rf none, va_rf none, va_rf none, .int 0, .int 0, .int 0, .int 0, .int 0, .int 0, .int 0, .int 0, va_rf none, va_rf none, va_rf none, va_rf none] j := fun j hj => match j, hj with
  | 0, _ => rfl
  | 1, _ => rfl
  | 2, _ => rfl
  | 3, _ => rfl
  | 4, _ => rfl
  | 5, _ => rfl
  | 6, _ => rfl
  | 7, _ => rfl
  | 8, _ => rfl
  | 9, _ => rfl
  | 10, _ => rfl
  | 11, _ => rfl
  | 12, _ => rfl
  | 13, _ => rfl
  | 14, _ => rfl
  | j + 15, h => absurd h (by omega)
theorem zdf2 : ∀ j, j < 3 → defaultValue (tyJ2 j) = vp_V [.int 0, va_rf none, .int 0] j := fun j hj => match j, hj with
  | 0, _ => rfl
  | 1, _ => rfl
  | 2, _ => rfl
  | j + 3, h => absurd h (by omega)
theorem zdf3 : ∀ j, j < 3 → defaultValue (tyJ3 j) = vp_V [va_rf none, .int 0, .int 0] j := fun j hj => match j, hj with
  | 0, _ => rfl
  | 1, _ => rfl
  | 2, _ => rfl
  | j + 3, h => absurd h (by omega)
theorem zdf4 : ∀ j, j < 41 → defaultValue (tyX3 j) = vp_V [va_rf none, va_rf none, va_rf none, va_rf none, .int 0, .int 0, .int 0, va_rf none, va_rf none, va_rf none, va_rf none, va_rf none, va_rf none, va_rf none, va_rf none, .int 0, va_rf none, va_rf none, va_rf none, .long 0, .long 0, .int 0, .int 0, .int 0, va_rf none, va_rf none, .int 0, va_rf none, .int 0, .int 0, .int 0, .int 0, .int 0, .int 0, .int 0, .int 0, .int 0, va_rf none, va_rf none, va_rf none, .int 0] j := fun j hj => match j, hj with
  | 0, _ => rfl
  | 1, _ => rfl
  | 2, _ => rfl
  | 3, _ => rfl
  | 4, _ => rfl
  | 5, _ => rfl
  | 6, _ => rfl
  | 7, _ => rfl
  | 8, _ => rfl
  | 9, _ => rfl
  | 10, _ => rfl
  | 11, _ => rfl
  | 12, _ => rfl
  | 13, _ => rfl
  | 14, _ => rfl
  | 15, _ => rfl
  | 16, _ => rfl
  | 17, _ => rfl
  | 18, _ => rfl
  | 19, _ => rfl
  | 20, _ => rfl
  | 21, _ => rfl
  | 22, _ => rfl
  | 23, _ => rfl
  | 24, _ => rfl
  | 25, _ => rfl
  | 26, _ => rfl
  | 27, _ => rfl
  | 28, _ => rfl
  | 29, _ => rfl
  | 30, _ => rfl
  | 31, _ => rfl
  | 32, _ => rfl
  | 33, _ => rfl
  | 34, _ => rfl
  | 35, _ => rfl
  | 36, _ => rfl
  | 37, _ => rfl
  | 38, _ => rfl
  | 39, _ => rfl
  | 40, _ => rfl
  | j + 41, h => absurd h (by omega)
theorem zdf7 : ∀ j, j < 10 → defaultValue (tyX5 j) = vp_V [va_rf none, .int 0, .int 0, .int 0, .int 0, .int 0, va_rf none, va_rf none, va_rf none, va_rf none] j := fun j hj => match j, hj with
  | 0, _ => rfl
  | 1, _ => rfl
  | 2, _ => rfl
  | 3, _ => rfl
  | 4, _ => rfl
  | 5, _ => rfl
  | 6, _ => rfl
  | 7, _ => rfl
  | 8, _ => rfl
  | 9, _ => rfl
  | j + 10, h => absurd h (by omega)
theorem zdf8 : ∀ j, j < 4 → defaultValue (tyJ10 j) = vp_V [va_rf none, .int 0, .int 0, .int 0] j := fun j hj => match j, hj with
  | 0, _ => rfl
  | 1, _ => rfl
  | 2, _ => rfl
  | 3, _ => rfl
  | j + 4, h => absurd h (by omega)
theorem zdf9 : ∀ j, j < 4 → defaultValue (tyJ11 j) = vp_V [va_rf none, .int 0, .int 0, .int 0] j := fun j hj => match j, hj with
  | 0, _ => rfl
  | 1, _ => rfl
  | 2, _ => rfl
  | 3, _ => rfl
  | j + 4, h => absurd h (by omega)
theorem zdf10 : ∀ j, j < 1 → defaultValue (tyJ18 j) = vp_V [.int 0] j := fun j hj => match j, hj with
  | 0, _ => rfl
  | j + 1, h => absurd h (by omega)
theorem zdf11 : ∀ j, j < 8 → defaultValue (tyX6 j) = vp_V [va_rf none, va_rf none, va_rf none, va_rf none, va_rf none, .int 0, .int 0, .int 0] j := fun j hj => match j, hj with
  | 0, _ => rfl
  | 1, _ => rfl
  | 2, _ => rfl
  | 3, _ => rfl
  | 4, _ => rfl
  | 5, _ => rfl
  | 6, _ => rfl
  | 7, _ => rfl
  | j + 8, h => absurd h (by omega)
theorem zdf12 : ∀ j, j < 1 → defaultValue (tyX7 j) = vp_V [va_rf none] j := fun j hj => match j, hj with
  | 0, _ => rfl
  | j + 1, h => absurd h (by omega)
theorem zdf13 : ∀ j, j < 6 → defaultValue (tyX9 j) = vp_V [va_rf none, va_rf none, va_rf none, va_rf none, va_rf none, .int 0] j := fun j hj => match j, hj with
  | 0, _ => rfl
  | 1, _ => rfl
  | 2, _ => rfl
  | 3, _ => rfl
  | 4, _ => rfl
  | 5, _ => rfl
  | j + 6, h => absurd h (by omega)
theorem zdf14 : ∀ j, j < 1 → defaultValue (tyX10 j) = vp_V [va_rf none] j := fun j hj => match j, hj with
  | 0, _ => rfl
  | j + 1, h => absurd h (by omega)
theorem zdf15 : ∀ j, j < 6 → defaultValue (tyX11 j) = vp_V [va_rf none, va_rf none, va_rf none, va_rf none, va_rf none, .int 0] j := fun j hj => match j, hj with
  | 0, _ => rfl
  | 1, _ => rfl
  | 2, _ => rfl
  | 3, _ => rfl
  | 4, _ => rfl
  | 5, _ => rfl
  | j + 6, h => absurd h (by omega)
theorem zdf17 : ∀ j, j < 1 → defaultValue (tyX13 j) = vp_V [.int 0] j := fun j hj => match j, hj with
  | 0, _ => rfl
  | j + 1, h => absurd h (by omega)
theorem zdf18 : ∀ j, j < 4 → defaultValue (tyJ23 j) = vp_V [va_rf none, .int 0, va_rf none, .int 0] j := fun j hj => match j, hj with
  | 0, _ => rfl
  | 1, _ => rfl
  | 2, _ => rfl
  | 3, _ => rfl
  | j + 4, h => absurd h (by omega)
theorem zdf20 : ∀ j, j < 2 → defaultValue (tyX15 j) = vp_V [.int 0, .int 0] j := fun j hj => match j, hj with
  | 0, _ => rfl
  | 1, _ => rfl
  | j + 2, h => absurd h (by omega)
theorem zdf22 : ∀ j, j < 3 → defaultValue (tyX17 j) = vp_V [.int 0, .int 0, va_rf none] j := fun j hj => match j, hj with
  | 0, _ => rfl
  | 1, _ => rfl
  | 2, _ => rfl
  | j + 3, h => absurd h (by omega)
theorem zdf23 : ∀ j, j < 7 → defaultValue (tyX18 j) = vp_V [va_rf none, .int 0, .int 0, va_rf none, va_rf none, .long 0, .long 0] j := fun j hj => match j, hj with
  | 0, _ => rfl
  | 1, _ => rfl
  | 2, _ => rfl
  | 3, _ => rfl
  | 4, _ => rfl
  | 5, _ => rfl
  | 6, _ => rfl
  | j + 7, h => absurd h (by omega)
theorem zdf24 : ∀ j, j < 2 → defaultValue (tyX19 j) = vp_V [.long 0, .long 0] j := fun j hj => match j, hj with
  | 0, _ => rfl
  | 1, _ => rfl
  | j + 2, h => absurd h (by omega)
theorem zdf25 : ∀ j, j < 3 → defaultValue (tyX20 j) = vp_V [va_rf none, va_rf none, va_rf none] j := fun j hj => match j, hj with
  | 0, _ => rfl
  | 1, _ => rfl
  | 2, _ => rfl
  | j + 3, h => absurd h (by omega)
theorem zdf26 : ∀ j, j < 11 → defaultValue (tyX21 j) = vp_V [va_rf none, .int 0, .int 0, .int 0, .int 0, .int 0, va_rf none, va_rf none, .int 0, .int 0, va_rf none] j := fun j hj => match j, hj with
  | 0, _ => rfl
  | 1, _ => rfl
  | 2, _ => rfl
  | 3, _ => rfl
  | 4, _ => rfl
  | 5, _ => rfl
  | 6, _ => rfl
  | 7, _ => rfl
  | 8, _ => rfl
  | 9, _ => rfl
  | 10, _ => rfl
  | j + 11, h => absurd h (by omega)
theorem zdf27 : ∀ j, j < 1 → defaultValue (tyX23 j) = vp_V [va_rf none] j := fun j hj => match j, hj with
  | 0, _ => rfl
  | j + 1, h => absurd h (by omega)
theorem zdf28 : ∀ j, j < 3 → defaultValue (tyX24 j) = vp_V [.int 0, .int 0, .int 0] j := fun j hj => match j, hj with
  | 0, _ => rfl
  | 1, _ => rfl
  | 2, _ => rfl
  | j + 3, h => absurd h (by omega)
theorem zdf29 : ∀ j, j < 2 → defaultValue (tyX25 j) = vp_V [va_rf none, .int 0] j := fun j hj => match j, hj with
  | 0, _ => rfl
  | 1, _ => rfl
  | j + 2, h => absurd h (by omega)
