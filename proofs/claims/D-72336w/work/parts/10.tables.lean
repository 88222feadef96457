/-! TABLES: the classes by their places, the array classes -/
def TX4 : u_T := fun _ => ("", "", "", false)
def tyX4 : Nat → FieldType := fun _ => .int
def wcl : List vw_C := [(RX0, TX0, 12), (RX1, TX1, 5), (RX2, TX2, 16), (RX3, TX3, 1), (RX4, TX4, 0), (RX5, TX5, 2), (RX6, TX6, 2), (RX7, TX7, 23), (RX8, TX8, 4), (RX9, TX9, 3), (RX10, TX10, 2), (RX11, TX11, 4), (RX12, TX12, 7), (RX13, TX13, 7), (RX14, TX14, 7), (RJ3, TJ3, 1), (RJ5, TJ5, 9), (RJ7, TJ7, 4), (RJ9, TJ9, 1), (RJ10, TJ10, 6), (RJ16, TJ16, 1), (RJ18, TJ18, 4), (RJ15, TJ15, 8)]
def wtys (d : Nat → ClassId) : List (ClassId × FieldType) := [(d 0, .int), (d 1, .byte), (d 2, .object "PictureRing$Picture"), (d 3, .object "PictureRing$State"), (d 4, .object "PictureRing$Way"), (d 5, .object "PictureRing$Corners"), (d 6, .object "PictureRing$Link"), (d 7, .array .int), (d 8, .object "PictureRing$Fraction"), (d 9, .object "java/lang/Object")]
