/-! THE TABLES of the flat memory: kinds of cells (1.. objects by their class, 50.. arrays), their fields' types -/
set_option maxRecDepth 100000
def cx_T0 : u_T := fun _ => ("", "", "", false)
def cx_TK : u_T := fun k => match k with
  | 0 => ("java/lang/Enum", "ordinal", "I", true)
  | _ => ("CheekTown$Kind", "told", "Ljava/lang/String;", true)
def cx_TF : u_T := fun k => match k with
  | 0 => ("java/lang/Enum", "ordinal", "I", true)
  | _ => ("CheekTown$Fact", "told", "Ljava/lang/String;", true)
def cx_TR : u_T := fun _ => ("java/lang/Enum", "ordinal", "I", true)
def cx_cl : List vw_C := [("", cx_T0, 0), (RX1, TX1, 13), (RX2, TX2, 31), (RX3, TX3, 7), (RX4, TX4, 8), (RX5, TX5, 4), (RX6, TX6, 2), (RX7, TX7, 5), (RX8, TX8, 27), (RX9, TX9, 6), (RX10, cx_TK, 2), (RX11, TX11, 1), (RX12, TX12, 2), (RX13, TX13, 2), (RX14, TX14, 1), (RX15, TX15, 1), (RX16, TX16, 1), (RX17, TX17, 2), (RX18, cx_TF, 2), (RX19, TX19, 2), (RX20, TX20, 2), (RX21, cx_TR, 1), (RJ2, TJ2, 3), (RJ4, TJ4, 4), (RJ5, TJ5, 4), (RJ15, cx_T0, 0), (RJ19, cx_T0, 0), (RJ21, cx_T0, 0), (RJ23, cx_T0, 0), (RJ18, cx_T0, 0)]
def cx_nm (ci : Nat) : String := (cx_cl.getD ci ("", cx_T0, 0)).1
def cx_tE : Nat → FieldType := fun k => match k with
  | 0 => .int
  | _ => .object "java/lang/String"
def cx_ft (ci k : Nat) : FieldType := match ci with
  | 1 => tyX1 k | 2 => tyX2 k | 3 => tyX3 k | 4 => tyX4 k | 5 => tyX5 k | 6 => tyX6 k | 7 => tyX7 k | 8 => tyX8 k | 9 => tyX9 k
  | 11 => tyX11 k | 12 => tyX12 k | 13 => tyX13 k | 14 => tyX14 k | 15 => tyX15 k | 16 => tyX16 k | 17 => tyX17 k | 19 => tyX19 k
  | 20 => tyX20 k | 22 => tyJ2 k | 23 => tyJ4 k | 24 => tyJ5 k | _ => cx_tE k
def cx_tk (t : Nat) : FieldType := match t with
  | 0 => .int | 1 => .byte | 2 => .boolean | 3 => .long | 4 => .object "java/lang/Object" | 5 => .object "CheekTown$Kind" | 6 => .object "CheekTown$Fact" | _ => .object "CheekTown$Rule"
/-- 0 an int of some width, 1 a long, 2 a reference -/
def cx_rk (t : FieldType) : Nat := match t with
  | .long => 1 | .object _ => 2 | .array _ => 2 | _ => 0
